/-! ROWS 9: exceptions -/
set_option maxRecDepth 100000
theorem zNoTr {l : Launch} (h : l.flags = flags0) : l.stackTraces = false := by unfold Launch.stackTraces; rw [h]; decide +kernel
theorem zThA {args : Array Value} {s : State} (t : ∀ w ∈ lw_all, w.before args s = true) (l1 : (Cond.laysStatic Bundle.tN "UNASSIGNED_STACK" Bundle.steD).before args s = true) (l2 : (Cond.laysStatic Bundle.tN "SUPPRESSED_SENTINEL" Bundle.listD).before args s = true) : ∀ c ∈ Bundle.throwableAtoms, c.before args s = true :=
  vx_c (t _ q137) (vx_c (t _ q512) (vx_c (t _ q521) (vx_c (t _ q523) (vx_c (t _ q526) (vx_c (t _ q528) (vx_c (t _ q513) (vx_c (t _ q514) (vx_c (t _ q164) (vx_c (t _ q165)
  (vx_c (t _ q515) (vx_c (t _ q520) (vx_c (t _ q524) (vx_c (t _ q541) (vx_c (t _ q502) (vx_c (t _ q542) (vx_c (t _ q504) (vx_c (t _ q543) (vx_c (t _ q506) (vx_c (t _ q516) (vx_c l1 (vx_c (t _ q518) (vx_c l2 (vx_c (t _ q508) vx_n)))))))))))))))))))))))
theorem zThC {args : Array Value} {s : State} (t : ∀ w ∈ lw_all, w.before args s = true) (hN : zNest s) : ∀ c ∈ Bundle.chain0Atoms "java/lang/Exception" [], c.before args s = true :=
  vx_c (t _ q533) (vx_c (t _ q534) (vx_c (t _ q535) (vx_c (t _ q513) (vx_c (va_Nw.use rfl (hN.2.2.2.1 _ q497)) vx_n))))
theorem zFname {s : State} {cls name desc : String} {c i : Nat} {k : Class} {f : Field} (h : s.fieldFound? cls name desc = some (c, k, i, f)) {t : FieldType} (ht : parseFieldDescriptor desc = some t) : f.name = name := (State.fieldFound?_type h ht).1
def zexc (g : zGd) (m : zMm) (a : Option Nat) : Option Unit := a.bind fun a => if ((zK g a).1 = 6 ∧ zB g ≤ a) ∧ zR m a 2 = none then some () else none
section
variable {X : zCx} {cc : ByteArray} {nL pc fr lo : Nat} {own mn : String} {L : List (Nat × Value)} {st : List Value} {g : zGd} {m : zMm} {α : Type} {fin : α}
set_option maxHeartbeats 4000000 in
/-- the constructor of Exception, called on a Wrong -/
theorem g_excI {index : Nat} {a : Option Nat} {cn : Nat} {K : Unit → Option α} (q1 : Cond.methodLink own index (Bundle.init0 "java/lang/Exception") ∈ lw_all) (hcat : zCat st cn) (hc8 : cn ≤ 8) (hroom : 4 ≤ fr ∧ 80 ≤ lo) (d : decode cc pc = .ok (.invokespecial index, 3)) (h : (zexc g m a).bind K = some fin) (kk : K () = some fin → zG X cc nL own mn fr lo (pc + 3) L st g m) : zG X cc nL own mn fr lo pc L (va_rf a :: st) g m := by
  obtain ⟨a0, rfl, ⟨⟨h1, hge⟩, hnul⟩, h2⟩ := zop h
  have k0 := kk h2
  refine ⟨k0.1, fun hF H locs cells slots ls hR hL => ?_⟩
  intro T hT X'
  have htr : (xe X).platform.stackTraces = false := (show (xe X).platform.stackTraces = (xl X).stackTraces by rw [X'.admits.platform]).trans (zNoTr hF.fl)
  have howns : (xe X).platform.frameOwnsMonitors = true := by rw [X'.admits.platform]
  have hfin : (xe X).platform.finalization = false := by rw [X'.admits.platform]
  have hpl : (xe X).platform.magicAccessors = ({} : Platform).magicAccessors := by rw [X'.admits.platform]
  have hU := hF.en.2.2.2.2.2.2.2.1
  have hS := hF.en.2.2.2.2.2.2.2.2
  obtain ⟨Th, Z, L0, LZ, Y⟩ := ThrowableC.of_atoms (args := xa X) howns hfin hpl (zThA hF.ts hU.2.word hS.2.word)
  obtain ⟨P1, Ps, hlen, L1, hLP, hP1m, hlink1, hlink⟩ := Bundle.chain0 (args := xa X) hpl Y.init0 [] "java/lang/Exception" (by decide +kernel) (fun _ h => nomatch h) (zThC hF.ts hF.N)
  have hPs : Ps = [] := List.eq_nil_of_length_eq_zero hlen
  subst hPs
  obtain ⟨hSl, hfc, kC, hkC, hkind⟩ := hF.K.1 5 _ zc5
  obtain ⟨r, e1, cell, c1, c2, c3, c4⟩ := hR.at (ci := 5) h1 (by decide) 0 _ rfl
  have hr : r = (RX5, zTW, 3) := Option.some.inj (e1.symm.trans rfl)
  subst hr
  obtain ⟨cell', c1', ⟨hmo, hmc⟩, hs8⟩ := hR.1.2.2 a0 h1
  cases c1.symm.trans c1'
  -- where Throwable's statics lie
  obtain ⟨cellS0, hcS0, hiss⟩ := Y.statics
  obtain ⟨u0, hu0⟩ := Cond.staticRefV Y.unassigned L0.unassignedStatic L0.statics hcS0 hiss (vx_isRefq (args := xa X) hU.1)
  obtain ⟨sen, hsen⟩ := Cond.staticRefV Y.sentinel L0.sentinelStatic L0.statics hcS0 hiss (vx_isRefq (args := xa X) hS.1)
  have hlow : ¬ zB (xg X) ≤ Th.aS := by
    obtain ⟨c9, k9, i9, f9, a9, cell9, -, r2, -, r4, -, -, -, -, -, r10⟩ := hU.2
    cases r2.symm.trans Y.unassigned
    cases r4.symm.trans L0.statics
    exact r10
  have hcellS : T.heap[Th.aS]? = some cellS0 := by
    rw [hT]
    exact (hR.2.1.2.1 Th.aS (Array.getElem?_eq_some_iff.mp hcS0).1 hlow).trans hcS0
  have hgeX : zB (xg X) ≤ a0 := by rw [← hR.2.2.2.2.1]; exact hge
  have hneS : Th.aS ≠ a0 := fun e => hlow (by rw [e]; exact hgeX)
  have hknownS : cellS0.vm ≠ .unknown := fun hu => by rw [hu] at hiss; cases hiss
  -- the fields
  obtain ⟨ci198, i198, fB, hk198, hg198, ha198, hsB, -, hnB, htB, hffB⟩ := Cond.ownField (args := xa X) (t := .object "java/lang/Object") Y.found L0.cls (by decide +kernel) (hF.ts _ q511) (hF.ts _ q510) (xe X).platform hpl
  obtain ⟨c1x, k1x, hc1x, hk1x, hord, -, -, hn8⟩ := Cond.instantiable_spec (hF.ts _ q493)
  cases hc1x.symm.trans hfc
  cases hk1x.symm.trans hkC
  obtain ⟨tyC, dC, hdC, hdnC⟩ := Cond.laysAt hfc hkC Y.cause (hF.ts _ q501)
  obtain ⟨tyS, dS, hdS, hdnS⟩ := Cond.laysAt hfc hkC Y.stack (hF.ts _ q503)
  obtain ⟨tyP, dP, hdP, hdnP⟩ := Cond.laysAt hfc hkC Y.supp (hF.ts _ q505)
  have hw : ∀ k, k < 3 → (Cond.lays RX5 (zTW k).1 (zTW k).2.1 (zTW k).2.2.1).before (xa X) (xs X) = true ∨ (Cond.laysFinal RX5 (zTW k).1 (zTW k).2.1 (zTW k).2.2.1).before (xa X) (xs X) = true := fun k hk => u_lays hF.ts zTW_in hk
  have hap : ∀ k, k < 3 → ((xD X).1.2 5 k ≠ Th.fCause.slot ∧ (xD X).1.2 5 k ≠ Th.fStack.slot) ∧ (xD X).1.2 5 k ≠ Th.fSupp.slot := by
    intro k hk
    obtain ⟨cf, kf, fi, f, hi, hsl⟩ := hSl k hk
    obtain ⟨t, ht⟩ : ∃ t, parseFieldDescriptor (zTW k).2.2.1 = some t := by
      obtain ⟨ty0, h0⟩ := zty5
      exact ⟨_, h0 k hk⟩
    have hfn := zFname hi ht
    have hne : ((zTW k).2.1 ≠ "cause" ∧ (zTW k).2.1 ≠ "stackTrace") ∧ (zTW k).2.1 ≠ "suppressedExceptions" := by
      match k, hk with
      | 0, _ => decide
      | 1, _ => decide
      | 2, _ => decide
    rw [← hsl]
    exact ⟨⟨u_apart (args := xa X) (hw k hk) (Or.inl (hF.ts _ q501)) hi Y.cause (by rw [hfn, Y.causeName]; exact hne.1.1), u_apart (args := xa X) (hw k hk) (Or.inl (hF.ts _ q503)) hi Y.stack (by rw [hfn, Y.stackName]; exact hne.1.2)⟩, u_apart (args := xa X) (hw k hk) (Or.inl (hF.ts _ q505)) hi Y.supp (by rw [hfn, Y.suppName]; exact hne.2)⟩
  have hB2 : (xD X).1.2 5 2 = fB.slot := by
    obtain ⟨cf, kf, fi, f, hi, hsl⟩ := hSl 2 (by decide)
    cases hi.symm.trans hffB
    exact hsl.symm
  have hkeep : ∀ k, k < 3 → ∀ x y z : Value, ((((cell.setSlot Th.fCause.slot x).setSlot Th.fStack.slot y).setSlot Th.fSupp.slot z)).slots[(xD X).1.2 5 k]? = some (vp_V (zFs 5 m a0) k) := by
    intro k hk x y z
    obtain ⟨⟨n1, n2⟩, n3⟩ := hap k hk
    rw [← c4 k hk]
    simp [Cell.setSlot, Array.getElem?_setIfInBounds, n1.symm, n2.symm, n3.symm]
  have hskip : SkipFacts Th (xe X).platform (xs X) (fun u => u) u0 ((preparedCellV Th.toThrowableT cell a0 u0 sen).withEntry T.cur) :=
    ⟨{ ci198 := ci198, i198 := i198, fBack := fB }, ⟨hk198, hg198, ha198, hsB⟩, by
      have h9 := hkeep 2 (by decide) (.ref a0) u0.v sen.v
      rw [hB2] at h9
      have h10 : vp_V (zFs 5 m a0) 2 = .null := by
        show va_rf (zR m a0 2) = .null
        rw [hnul]; rfl
      rw [h10] at h9
      exact h9, fun _ _ => rfl⟩
  have hsel0 : selectMethod (xe X).platform (xs X).vm cell.cls Th.fill0 = .method Th.fill0 := by
    obtain ⟨c2', r2, m2, p1, p2, p3, p4, -⟩ := Cond.selects_spec (hF.ts _ q499)
    cases p1.symm.trans hfc
    cases Option.some.inj (p2.symm.trans (State.methodFound?_of_named Y.fill0 (by decide)))
    cases Option.some.inj (p3.symm.trans Y.fill0)
    rw [Launch.admits_selectMethod X'.admits, c2]; exact p4
  have hselF : selectMethod (xe X).platform (xs X).vm cell.cls Th.fill = .method Th.fill := by
    obtain ⟨c2', r2, m2, p1, p2, p3, p4, -⟩ := Cond.selects_spec (hF.ts _ q500)
    cases p1.symm.trans hfc
    cases Option.some.inj (p2.symm.trans (State.methodFound?_of_named Y.fill (by decide)))
    cases Option.some.inj (p3.symm.trans Y.fill)
    rw [Launch.admits_selectMethod X'.admits, c2]; exact p4
  have hlt : ∀ {f : Field}, kC.instanceTypes[f.slot]? = some f.type → f.slot < cell.slots.size := fun hty => by
    rw [hs8, ← hn8]
    exact (Array.getElem?_eq_some_iff.mp hty).1
  have htk : ∀ {f : Field} {v : Value}, kC.instanceTypes[f.slot]? = some f.type → fits f.type v = true → Takes (xs X) cell f v := fun hty hv => ⟨hlt hty, by
    have h9 := (Takes.of_laid (s := xs X) hkC hord hty hv).2
    rw [c2, c3]
    exact h9⟩
  obtain ⟨tm, methC, cdC, kX, vm₁, hnC, -, -, -, -, -, -, -, hW₁, st1⟩ := Steps.initCold (tb := (xP X).tables) (e := xe X) (below := xb X) (s := xs X) (U := T) X'.here hF.ex X'.warmed hpl hF.ow (t := Bundle.init0 "java/lang/Exception") rfl rfl ⟨by decide, by decide⟩
    (hF.ts _ q1) (hF.ts _ q533) (bytes := Bundle.five) (maxL := 1) (hF.ts _ q534)
    (f := F0 (xm X) pc ls (va_rf (some a0) :: st)) rfl (a := a0) (rest := st) rfl (by rw [hF.by]; exact d)
  cases Option.some.inj (hnC.symm.trans hP1m)
  have X₁ := X'.noted hW₁
  obtain ⟨vm₂, X₂, st2⟩ := X₁.ctorPlainOffV hF.ex (g := F0 (xm X) pc ls st) rfl (by rw [hF.ml]; exact hL.1) Th L0 Z LZ [P1]
    (fun P hP => by rw [List.mem_singleton.mp hP]; exact L1) ⟨hlink1, hlink⟩ (u0 := u0) (sen := sen) (self := a0) (cell := cell) (cellS := cellS0)
    (show T.heap[a0]? = some cell by rw [hT]; exact c1) (fun _ => by rw [c3]; intro h; cases h) (by rw [c3]; intro h; cases h) hmo hmc hsel0 hselF hcellS hneS hknownS hu0 hsen
    (htk tyC (by rw [Y.causeType]; rfl)) (htk tyS (by rw [Y.stackType]; exact fits_refV_array _ u0)) (htk tyP (by rw [Y.suppType]; exact fits_refV_object _ sen)) Y.objLocals hskip htr [] (by rw [hF.by]; exact d)
    (by rw [hF.ro.1]; exact hroom.1) (by
      rw [hF.ro.2]
      unfold zCat at hcat
      show 2 * 0 + (st.map fun v => v.category).sum + (13 * 1 + 41) ≤ lo
      rw [hcat]
      omega)
  have hl : a0 < H.size := (Array.getElem?_eq_some_iff.mp c1).1
  have hheap : (((T.setVm vm₁).setVm vm₂).setCell a0 ((preparedCellV Th.toThrowableT cell a0 u0 sen).setSlot Th.fStack.slot u0.v)).heap = H.setIfInBounds a0 ((preparedCellV Th.toThrowableT cell a0 u0 sen).setSlot Th.fStack.slot u0.v) := by rw [← hT]; rfl
  have oq : ∀ q : Nat, q ≠ a0 → (H.setIfInBounds a0 ((preparedCellV Th.toThrowableT cell a0 u0 sen).setSlot Th.fStack.slot u0.v))[q]? = H[q]? := fun q hq => by simp [Array.getElem?_setIfInBounds, Ne.symm hq]
  have hat : (H.setIfInBounds a0 ((preparedCellV Th.toThrowableT cell a0 u0 sen).setSlot Th.fStack.slot u0.v))[a0]? = some ((preparedCellV Th.toThrowableT cell a0 u0 sen).setSlot Th.fStack.slot u0.v) := by simp [Array.getElem?_setIfInBounds, hl]
  obtain ⟨t1, a1, b1⟩ := k0.2 hF _ _ cells slots ls (hR.putL hge (H1 := H.setIfInBounds a0 ((preparedCellV Th.toThrowableT cell a0 u0 sen).setSlot Th.fStack.slot u0.v)) (by simp) oq (by
      rw [zE_o (zK1 h1) (by decide)]
      refine ⟨_, zc5, _, hat, c2, c3, fun j hj => ?_⟩
      have n2 := (hap j hj).1.2
      have h9 := hkeep j hj (.ref a0) u0.v sen.v
      rw [← h9]
      simp [Cell.setSlot, Array.getElem?_setIfInBounds, n2.symm])
    (fun q hq => rfl) (fun _ => ⟨_, hat, ⟨hmo, hmc⟩, by simp only [Cell.setSlot, Array.size_setIfInBounds]; exact hs8⟩)
    (L1 := [⟨a0, Th.fCause.slot⟩, ⟨a0, Th.fStack.slot⟩, ⟨a0, Th.fSupp.slot⟩, ⟨a0, Th.fStack.slot⟩]) (fun q hq => by
      simp only [List.mem_cons, List.not_mem_nil, or_false] at hq
      rcases hq with e | e | e | e <;> subst e <;> rfl)) hL _ hheap X₂
  refine ⟨t1, st1 _ (fun acts => ?_), b1⟩
  rw [doInvoke_state]
  exact st2 _ a1
end
