/-! ROWS 5: fields by their facts, loops, switches with gaps (printed by gen/fields.py) -/
set_option maxRecDepth 100000
def zLoop {σ ρ : Type} (body : σ → Option (ρ ⊕ σ)) : Nat → σ → Option ρ
  | 0, _ => none
  | n + 1, s => zEx (body s) (zLoop body n)
theorem zLoop_ok {σ ρ : Type} {body : σ → Option (ρ ⊕ σ)} {Φ : σ → Prop} (o : ρ) (step : ∀ (s : σ) (x : ρ ⊕ σ), body s = some x → (∀ r, x = .inl r → r = o) → (∀ s', x = .inr s' → Φ s') → Φ s) : ∀ (n : Nat) (s : σ), zLoop body n s = some o → Φ s
  | 0, _, h => by cases h
  | n + 1, s, h => by
    obtain ⟨x, hx, hl, hr⟩ := zEx_e (o := body s) (k := zLoop body n) h
    exact step s x hx hl (fun s' e => zLoop_ok o step n s' (hr s' e))
theorem zLoop_s {σ ρ : Type} (body : σ → Option (ρ ⊕ σ)) (n : Nat) (s : σ) : zLoop body (n + 1) s = zEx (body s) (zLoop body n) := rfl
/-- an object that has been made is no null -/
def zob {β : Type} (a : Option Nat) (o : Option β) : Option β := match a with
  | none => none
  | some _ => o
theorem zob_e {β : Type} {a : Option Nat} {o : Option β} {fin : β} (h : zob a o = some fin) : (∃ a0, a = some a0) ∧ o = some fin := by
  cases a with
  | none => cases h
  | some a0 => exact ⟨⟨a0, rfl⟩, h⟩
theorem zob_s {β : Type} (a : Nat) (o : Option β) : zob (some a) o = o := rfl
def zFd (ci k : Nat) (C : String) (T : u_T) (N kind : Nat) : Prop := zCl[ci]? = some (C, T, N) ∧ (∀ w ∈ u_ws C T N, w ∈ lw_all) ∧ k < N ∧ zF ci k = kind ∧ (ci < 100 ∧ k < zN ci)
def zPd (ci k : Nat) (C : String) (T : u_T) (N kind : Nat) (fin : Bool) (ty : FieldType) : Prop := zFd ci k C T N kind ∧ (∃ ty0 : Nat → FieldType, ∀ k, k < N → parseFieldDescriptor (T k).2.2.1 = some (ty0 k)) ∧ (∀ a, a < N → ∀ b, b < N → a ≠ b → (T a).2.1 ≠ (T b).2.1) ∧ (T k).2.2.2 = fin ∧ parseFieldDescriptor (T k).2.2.1 = some ty ∧ N = zN ci
def zNd (ci : Nat) (C : String) (T : u_T) (N : Nat) : Prop := zCl[ci]? = some (C, T, N) ∧ (∀ w ∈ u_ws C T N, w ∈ lw_all) ∧ (∃ ty0 : Nat → FieldType, (∀ k, k < N → parseFieldDescriptor (T k).2.2.1 = some (ty0 k)) ∧ ∀ j, j < N → defaultValue (ty0 j) = (match zF ci j with | 0 => Value.int 0 | 1 => Value.long 0 | _ => Value.null)) ∧ Cond.instantiable C (zSl ci) ∈ lw_all ∧ Cond.initialized C ∈ lw_all ∧ (ci < 100 ∧ N = zN ci)
theorem znf (fty : FieldType) (h : (∃ n, fty = .object n) ∨ ∃ t, fty = .array t) (v : Option Nat) : narrow fty (va_rf v) = va_rf v ∧ fits fty (va_rf v) = true := by
  rcases h with ⟨n, rfl⟩ | ⟨t, rfl⟩ <;> cases v <;> exact ⟨rfl, rfl⟩
section
variable {X : zCx} {cc : ByteArray} {nL pc fr lo : Nat} {own mn : String} {L : List (Nat × Value)} {st : List Value} {g : zGd} {m : zMm} {α : Type} {fin : α}
theorem gf_i {C ref : String} {T : u_T} {N ci index k : Nat} {a : Option Nat} {K : Int32 → Option α} (fd : zFd ci k C T N 0) (q : Cond.fieldLink own index ref (T k).2.1 (T k).2.2.1 ∈ lw_all) (hsame : ∀ x, (xs X).fieldFound? (T k).1 (T k).2.1 (T k).2.2.1 = some x → (xs X).fieldFound? ref (T k).2.1 (T k).2.2.1 = some x) (d : decode cc pc = .ok (.getfield index, 3)) (h : (zgi g m ci k a).bind K = some fin) (kk : ∀ v, K v = some fin → zG X cc nL own mn fr lo (pc + 3) L (.int v :: st) g m) : zG X cc nL own mn fr lo pc L (va_rf a :: st) g m := g_geti fd.1 fd.2.1 fd.2.2.1 fd.2.2.2.1 q hsame fd.2.2.2.2 d h kk
theorem gf_iN {C ref host : String} {T : u_T} {N ci index k : Nat} {a : Option Nat} {K : Int32 → Option α} (fd : zFd ci k C T N 0) (q : Cond.fieldLinkNest own index ref (T k).2.1 (T k).2.2.1 host ∈ lw_tbl) (hsame : ∀ x, (xs X).fieldFound? (T k).1 (T k).2.1 (T k).2.2.1 = some x → (xs X).fieldFound? ref (T k).2.1 (T k).2.2.1 = some x) (d : decode cc pc = .ok (.getfield index, 3)) (h : (zgi g m ci k a).bind K = some fin) (kk : ∀ v, K v = some fin → zG X cc nL own mn fr lo (pc + 3) L (.int v :: st) g m) : zG X cc nL own mn fr lo pc L (va_rf a :: st) g m := g_getiN fd.1 fd.2.1 fd.2.2.1 fd.2.2.2.1 q hsame fd.2.2.2.2 d h kk
theorem gf_j {C ref : String} {T : u_T} {N ci index k : Nat} {a : Option Nat} {K : Int64 → Option α} (fd : zFd ci k C T N 1) (q : Cond.fieldLink own index ref (T k).2.1 (T k).2.2.1 ∈ lw_all) (hsame : ∀ x, (xs X).fieldFound? (T k).1 (T k).2.1 (T k).2.2.1 = some x → (xs X).fieldFound? ref (T k).2.1 (T k).2.2.1 = some x) (d : decode cc pc = .ok (.getfield index, 3)) (h : (zgj g m ci k a).bind K = some fin) (kk : ∀ v, K v = some fin → zG X cc nL own mn fr lo (pc + 3) L (.long v :: st) g m) : zG X cc nL own mn fr lo pc L (va_rf a :: st) g m := g_getj fd.1 fd.2.1 fd.2.2.1 fd.2.2.2.1 q hsame fd.2.2.2.2 d h kk
theorem gf_r {C ref : String} {T : u_T} {N ci index k : Nat} {a : Option Nat} {K : Option Nat → Option α} (fd : zFd ci k C T N 2) (q : Cond.fieldLink own index ref (T k).2.1 (T k).2.2.1 ∈ lw_all) (hsame : ∀ x, (xs X).fieldFound? (T k).1 (T k).2.1 (T k).2.2.1 = some x → (xs X).fieldFound? ref (T k).2.1 (T k).2.2.1 = some x) (d : decode cc pc = .ok (.getfield index, 3)) (h : (zgr g m ci k a).bind K = some fin) (kk : ∀ v, K v = some fin → zG X cc nL own mn fr lo (pc + 3) L (va_rf v :: st) g m) : zG X cc nL own mn fr lo pc L (va_rf a :: st) g m := g_getr fd.1 fd.2.1 fd.2.2.1 fd.2.2.2.1 q hsame fd.2.2.2.2 d h kk
theorem gf_rN {C ref host : String} {T : u_T} {N ci index k : Nat} {a : Option Nat} {K : Option Nat → Option α} (fd : zFd ci k C T N 2) (q : Cond.fieldLinkNest own index ref (T k).2.1 (T k).2.2.1 host ∈ lw_tbl) (hsame : ∀ x, (xs X).fieldFound? (T k).1 (T k).2.1 (T k).2.2.1 = some x → (xs X).fieldFound? ref (T k).2.1 (T k).2.2.1 = some x) (d : decode cc pc = .ok (.getfield index, 3)) (h : (zgr g m ci k a).bind K = some fin) (kk : ∀ v, K v = some fin → zG X cc nL own mn fr lo (pc + 3) L (va_rf v :: st) g m) : zG X cc nL own mn fr lo pc L (va_rf a :: st) g m := g_getrN fd.1 fd.2.1 fd.2.2.1 fd.2.2.2.1 q hsame fd.2.2.2.2 d h kk
theorem gp_i {C ref : String} {T : u_T} {N ci index k : Nat} {a : Option Nat} {v : Int32} {K : zMm → Option α} (pd : zPd ci k C T N 0 false .int) (q : Cond.fieldLink own index ref (T k).2.1 (T k).2.2.1 ∈ lw_all) (hsame : ∀ x, (xs X).fieldFound? (T k).1 (T k).2.1 (T k).2.2.1 = some x → (xs X).fieldFound? ref (T k).2.1 (T k).2.2.1 = some x) (d : decode cc pc = .ok (.putfield index, 3)) (h : (zpi g m ci k a v).bind K = some fin) (kk : ∀ m', K m' = some fin → zG X cc nL own mn fr lo (pc + 3) L st g m') : zG X cc nL own mn fr lo pc L (.int v :: va_rf a :: st) g m := g_puti pd.1.1 pd.1.2.1 _ pd.2.1.choose_spec pd.2.2.1 pd.1.2.2.1 pd.1.2.2.2.1 q hsame pd.2.2.2.1 pd.2.2.2.2.1 ⟨pd.1.2.2.2.2.1, pd.2.2.2.2.2⟩ d h kk
theorem gp_iF {C ref : String} {T : u_T} {N ci index k : Nat} {a : Option Nat} {v : Int32} {K : zMm → Option α} (pd : zPd ci k C T N 0 true .int) (q : Cond.fieldLink own index ref (T k).2.1 (T k).2.2.1 ∈ lw_all) (hsame : ∀ x, (xs X).fieldFound? (T k).1 (T k).2.1 (T k).2.2.1 = some x → (xs X).fieldFound? ref (T k).2.1 (T k).2.2.1 = some x) (hin2 : mn = "<init>") (hdecl : (T k).1 = own) (d : decode cc pc = .ok (.putfield index, 3)) (h : (zpi g m ci k a v).bind K = some fin) (kk : ∀ m', K m' = some fin → zG X cc nL own mn fr lo (pc + 3) L st g m') : zG X cc nL own mn fr lo pc L (.int v :: va_rf a :: st) g m := g_putiF pd.1.1 pd.1.2.1 _ pd.2.1.choose_spec pd.2.2.1 pd.1.2.2.1 pd.1.2.2.2.1 q hsame pd.2.2.2.1 hin2 hdecl pd.2.2.2.2.1 ⟨pd.1.2.2.2.2.1, pd.2.2.2.2.2⟩ d h kk
theorem gp_iN {C ref host : String} {T : u_T} {N ci index k : Nat} {a : Option Nat} {v : Int32} {K : zMm → Option α} (pd : zPd ci k C T N 0 false .int) (q : Cond.fieldLinkNest own index ref (T k).2.1 (T k).2.2.1 host ∈ lw_tbl) (hsame : ∀ x, (xs X).fieldFound? (T k).1 (T k).2.1 (T k).2.2.1 = some x → (xs X).fieldFound? ref (T k).2.1 (T k).2.2.1 = some x) (d : decode cc pc = .ok (.putfield index, 3)) (h : (zpi g m ci k a v).bind K = some fin) (kk : ∀ m', K m' = some fin → zG X cc nL own mn fr lo (pc + 3) L st g m') : zG X cc nL own mn fr lo pc L (.int v :: va_rf a :: st) g m := g_putiN pd.1.1 pd.1.2.1 _ pd.2.1.choose_spec pd.2.2.1 pd.1.2.2.1 pd.1.2.2.2.1 q hsame pd.2.2.2.1 pd.2.2.2.2.1 ⟨pd.1.2.2.2.2.1, pd.2.2.2.2.2⟩ d h kk
theorem gp_z {C ref : String} {T : u_T} {N ci index k : Nat} {a : Option Nat} {v : Int32} {K : zMm → Option α} (pd : zPd ci k C T N 0 false .boolean) (q : Cond.fieldLink own index ref (T k).2.1 (T k).2.2.1 ∈ lw_all) (hsame : ∀ x, (xs X).fieldFound? (T k).1 (T k).2.1 (T k).2.2.1 = some x → (xs X).fieldFound? ref (T k).2.1 (T k).2.2.1 = some x) (d : decode cc pc = .ok (.putfield index, 3)) (h : (zpz g m ci k a v).bind K = some fin) (kk : ∀ m', K m' = some fin → zG X cc nL own mn fr lo (pc + 3) L st g m') : zG X cc nL own mn fr lo pc L (.int v :: va_rf a :: st) g m := g_putz pd.1.1 pd.1.2.1 _ pd.2.1.choose_spec pd.2.2.1 pd.1.2.2.1 pd.1.2.2.2.1 q hsame pd.2.2.2.1 pd.2.2.2.2.1 ⟨pd.1.2.2.2.2.1, pd.2.2.2.2.2⟩ d h kk
theorem gp_zF {C ref : String} {T : u_T} {N ci index k : Nat} {a : Option Nat} {v : Int32} {K : zMm → Option α} (pd : zPd ci k C T N 0 true .boolean) (q : Cond.fieldLink own index ref (T k).2.1 (T k).2.2.1 ∈ lw_all) (hsame : ∀ x, (xs X).fieldFound? (T k).1 (T k).2.1 (T k).2.2.1 = some x → (xs X).fieldFound? ref (T k).2.1 (T k).2.2.1 = some x) (hin2 : mn = "<init>") (hdecl : (T k).1 = own) (d : decode cc pc = .ok (.putfield index, 3)) (h : (zpz g m ci k a v).bind K = some fin) (kk : ∀ m', K m' = some fin → zG X cc nL own mn fr lo (pc + 3) L st g m') : zG X cc nL own mn fr lo pc L (.int v :: va_rf a :: st) g m := g_putzF pd.1.1 pd.1.2.1 _ pd.2.1.choose_spec pd.2.2.1 pd.1.2.2.1 pd.1.2.2.2.1 q hsame pd.2.2.2.1 hin2 hdecl pd.2.2.2.2.1 ⟨pd.1.2.2.2.2.1, pd.2.2.2.2.2⟩ d h kk
theorem gp_j {C ref : String} {T : u_T} {N ci index k : Nat} {a : Option Nat} {v : Int64} {K : zMm → Option α} (pd : zPd ci k C T N 1 false .long) (q : Cond.fieldLink own index ref (T k).2.1 (T k).2.2.1 ∈ lw_all) (hsame : ∀ x, (xs X).fieldFound? (T k).1 (T k).2.1 (T k).2.2.1 = some x → (xs X).fieldFound? ref (T k).2.1 (T k).2.2.1 = some x) (d : decode cc pc = .ok (.putfield index, 3)) (h : (zpj g m ci k a v).bind K = some fin) (kk : ∀ m', K m' = some fin → zG X cc nL own mn fr lo (pc + 3) L st g m') : zG X cc nL own mn fr lo pc L (.long v :: va_rf a :: st) g m := g_putj pd.1.1 pd.1.2.1 _ pd.2.1.choose_spec pd.2.2.1 pd.1.2.2.1 pd.1.2.2.2.1 q hsame pd.2.2.2.1 pd.2.2.2.2.1 ⟨pd.1.2.2.2.2.1, pd.2.2.2.2.2⟩ d h kk
theorem gp_r {C ref : String} {T : u_T} {N ci index k : Nat} {fty : FieldType} {a : Option Nat} {v : Option Nat} {K : zMm → Option α} (pd : zPd ci k C T N 2 false fty) (q : Cond.fieldLink own index ref (T k).2.1 (T k).2.2.1 ∈ lw_all) (hsame : ∀ x, (xs X).fieldFound? (T k).1 (T k).2.1 (T k).2.2.1 = some x → (xs X).fieldFound? ref (T k).2.1 (T k).2.2.1 = some x) (d : decode cc pc = .ok (.putfield index, 3)) (h : (zpr g m ci k a v).bind K = some fin) (kk : ∀ m', K m' = some fin → zG X cc nL own mn fr lo (pc + 3) L st g m') (hnf : (∃ n, fty = .object n) ∨ ∃ t, fty = .array t := by first | exact Or.inl ⟨_, rfl⟩ | exact Or.inr ⟨_, rfl⟩) : zG X cc nL own mn fr lo pc L (va_rf v :: va_rf a :: st) g m := g_putr pd.1.1 pd.1.2.1 _ pd.2.1.choose_spec pd.2.2.1 pd.1.2.2.1 pd.1.2.2.2.1 q hsame pd.2.2.2.1 pd.2.2.2.2.1 (znf fty hnf) ⟨pd.1.2.2.2.2.1, pd.2.2.2.2.2⟩ d h kk
theorem gp_rF {C ref : String} {T : u_T} {N ci index k : Nat} {fty : FieldType} {a : Option Nat} {v : Option Nat} {K : zMm → Option α} (pd : zPd ci k C T N 2 true fty) (q : Cond.fieldLink own index ref (T k).2.1 (T k).2.2.1 ∈ lw_all) (hsame : ∀ x, (xs X).fieldFound? (T k).1 (T k).2.1 (T k).2.2.1 = some x → (xs X).fieldFound? ref (T k).2.1 (T k).2.2.1 = some x) (hin2 : mn = "<init>") (hdecl : (T k).1 = own) (d : decode cc pc = .ok (.putfield index, 3)) (h : (zpr g m ci k a v).bind K = some fin) (kk : ∀ m', K m' = some fin → zG X cc nL own mn fr lo (pc + 3) L st g m') (hnf : (∃ n, fty = .object n) ∨ ∃ t, fty = .array t := by first | exact Or.inl ⟨_, rfl⟩ | exact Or.inr ⟨_, rfl⟩) : zG X cc nL own mn fr lo pc L (va_rf v :: va_rf a :: st) g m := g_putrF pd.1.1 pd.1.2.1 _ pd.2.1.choose_spec pd.2.2.1 pd.1.2.2.1 pd.1.2.2.2.1 q hsame pd.2.2.2.1 hin2 hdecl pd.2.2.2.2.1 (znf fty hnf) ⟨pd.1.2.2.2.2.1, pd.2.2.2.2.2⟩ d h kk
theorem gn_new {C : String} {T : u_T} {N ci index : Nat} {K : zGd × zMm → Option α} (nd : zNd ci C T N) (q1 : Cond.classLink own index C ∈ lw_all) (d : decode cc pc = .ok (.new index, 3)) (h : zlt (znewo g m ci) K = some fin) (kk : ∀ g' m', K (g', m') = some fin → zG X cc nL own mn fr lo (pc + 3) L (va_rf (some (zZ g)) :: st) g' m') : zG X cc nL own mn fr lo pc L st g m := g_new nd.1 nd.2.1 _ nd.2.2.1.choose_spec.1 q1 nd.2.2.2.1 nd.2.2.2.2.1 nd.2.2.2.2.2 nd.2.2.1.choose_spec.2 d h kk
theorem g_tswG {x : Int32} {dflt low hi : Int} {offs : Array Int} {len n : Nat} {vs : List Int32} (tgt : Nat) (d : decode cc pc = .ok (.tableswitch dflt low hi offs, len)) (hn : ∀ v ∈ vs, ¬ x = v) (hc : (List.range n).all (fun j => vs.contains (Int32.ofInt (low + (j : Int))) || offs[j]? == some dflt) = true) (hh : low + (n : Int) - 1 = hi) (ht : (pc : Int) + dflt = (tgt : Int)) (k : zG X cc nL own mn fr lo tgt L st g m) : zG X cc nL own mn fr lo pc L (.int x :: st) g m := by
  refine ⟨k.1, fun hF H locs cells slots ls hR hL => ?_⟩
  have k2 := k.2 hF H locs cells slots ls hR hL
  by_cases h1 : x.toInt < low
  · exact lv_tableOut hF.ex hF.by d (Or.inl h1) ht k2
  · by_cases h2 : hi < x.toInt
    · exact lv_tableOut hF.ex hF.by d (Or.inr h2) ht k2
    · have hj : (x.toInt - low).toNat < n := by omega
      have h3 := List.all_eq_true.mp hc _ (List.mem_range.mpr hj)
      have e : low + (((x.toInt - low).toNat : Nat) : Int) = x.toInt := by omega
      rw [e, Int32.ofInt_toInt, Bool.or_eq_true] at h3
      rcases h3 with h3 | h3
      · exact absurd rfl (hn x (by simpa using h3))
      · exact lv_tableIn hF.ex hF.by d h1 h2 (by simpa using h3) ht k2
end
theorem zTW_in : ∀ w ∈ u_ws RX5 zTW 3, w ∈ lw_all := by
  intro w h
  refine in_X5 w ?_
  unfold u_ws at h
  obtain ⟨k, hk, rfl⟩ := List.mem_map.mp h
  have hk2 := List.mem_range.mp hk
  match k, hk2 with
  | 0, _ => exact List.mem_map.mpr ⟨6, by decide, rfl⟩
  | 1, _ => exact List.mem_map.mpr ⟨7, by decide, rfl⟩
  | 2, _ => exact List.mem_map.mpr ⟨4, by decide, rfl⟩
theorem zc0 : zCl[0]? = some (RX0, TX0, 21) := rfl
theorem zty0 : ∃ ty0 : Nat → FieldType, ∀ k, k < 21 → parseFieldDescriptor (TX0 k).2.2.1 = some (ty0 k) := ⟨tyX0, tyX0_ok⟩
theorem znm0 : ∀ a, a < 21 → ∀ b, b < 21 → a ≠ b → (TX0 a).2.1 ≠ (TX0 b).2.1 := nmX0
theorem zfd_0_0 : zFd 0 0 RX0 TX0 21 2 := ⟨rfl, in_X0, by decide, rfl, by decide, by decide⟩
theorem zpd_0_0 : zPd 0 0 RX0 TX0 21 2 true (.object "QuiverKin$State") := ⟨zfd_0_0, zty0, znm0, rfl, by decide +kernel, rfl⟩
theorem zfd_0_1 : zFd 0 1 RX0 TX0 21 2 := ⟨rfl, in_X0, by decide, rfl, by decide, by decide⟩
theorem zpd_0_1 : zPd 0 1 RX0 TX0 21 2 true (.object "QuiverKin$State") := ⟨zfd_0_1, zty0, znm0, rfl, by decide +kernel, rfl⟩
theorem zfd_0_2 : zFd 0 2 RX0 TX0 21 2 := ⟨rfl, in_X0, by decide, rfl, by decide, by decide⟩
theorem zpd_0_2 : zPd 0 2 RX0 TX0 21 2 true (.array .byte) := ⟨zfd_0_2, zty0, znm0, rfl, by decide +kernel, rfl⟩
theorem zfd_0_3 : zFd 0 3 RX0 TX0 21 0 := ⟨rfl, in_X0, by decide, rfl, by decide, by decide⟩
theorem zpd_0_3 : zPd 0 3 RX0 TX0 21 0 false .int := ⟨zfd_0_3, zty0, znm0, rfl, by decide +kernel, rfl⟩
theorem zfd_0_4 : zFd 0 4 RX0 TX0 21 0 := ⟨rfl, in_X0, by decide, rfl, by decide, by decide⟩
theorem zpd_0_4 : zPd 0 4 RX0 TX0 21 0 false .int := ⟨zfd_0_4, zty0, znm0, rfl, by decide +kernel, rfl⟩
theorem zfd_0_5 : zFd 0 5 RX0 TX0 21 0 := ⟨rfl, in_X0, by decide, rfl, by decide, by decide⟩
theorem zpd_0_5 : zPd 0 5 RX0 TX0 21 0 false .int := ⟨zfd_0_5, zty0, znm0, rfl, by decide +kernel, rfl⟩
theorem zfd_0_6 : zFd 0 6 RX0 TX0 21 2 := ⟨rfl, in_X0, by decide, rfl, by decide, by decide⟩
theorem zpd_0_6 : zPd 0 6 RX0 TX0 21 2 true (.array .int) := ⟨zfd_0_6, zty0, znm0, rfl, by decide +kernel, rfl⟩
theorem zfd_0_7 : zFd 0 7 RX0 TX0 21 2 := ⟨rfl, in_X0, by decide, rfl, by decide, by decide⟩
theorem zpd_0_7 : zPd 0 7 RX0 TX0 21 2 true (.array .int) := ⟨zfd_0_7, zty0, znm0, rfl, by decide +kernel, rfl⟩
theorem zfd_0_8 : zFd 0 8 RX0 TX0 21 2 := ⟨rfl, in_X0, by decide, rfl, by decide, by decide⟩
theorem zpd_0_8 : zPd 0 8 RX0 TX0 21 2 true (.array .int) := ⟨zfd_0_8, zty0, znm0, rfl, by decide +kernel, rfl⟩
theorem zfd_0_9 : zFd 0 9 RX0 TX0 21 2 := ⟨rfl, in_X0, by decide, rfl, by decide, by decide⟩
theorem zpd_0_9 : zPd 0 9 RX0 TX0 21 2 true (.array .int) := ⟨zfd_0_9, zty0, znm0, rfl, by decide +kernel, rfl⟩
theorem zfd_0_10 : zFd 0 10 RX0 TX0 21 0 := ⟨rfl, in_X0, by decide, rfl, by decide, by decide⟩
theorem zpd_0_10 : zPd 0 10 RX0 TX0 21 0 false .int := ⟨zfd_0_10, zty0, znm0, rfl, by decide +kernel, rfl⟩
theorem zfd_0_11 : zFd 0 11 RX0 TX0 21 0 := ⟨rfl, in_X0, by decide, rfl, by decide, by decide⟩
theorem zpd_0_11 : zPd 0 11 RX0 TX0 21 0 false .int := ⟨zfd_0_11, zty0, znm0, rfl, by decide +kernel, rfl⟩
theorem zfd_0_12 : zFd 0 12 RX0 TX0 21 0 := ⟨rfl, in_X0, by decide, rfl, by decide, by decide⟩
theorem zpd_0_12 : zPd 0 12 RX0 TX0 21 0 false .int := ⟨zfd_0_12, zty0, znm0, rfl, by decide +kernel, rfl⟩
theorem zfd_0_13 : zFd 0 13 RX0 TX0 21 0 := ⟨rfl, in_X0, by decide, rfl, by decide, by decide⟩
theorem zpd_0_13 : zPd 0 13 RX0 TX0 21 0 false .int := ⟨zfd_0_13, zty0, znm0, rfl, by decide +kernel, rfl⟩
theorem zfd_0_14 : zFd 0 14 RX0 TX0 21 0 := ⟨rfl, in_X0, by decide, rfl, by decide, by decide⟩
theorem zpd_0_14 : zPd 0 14 RX0 TX0 21 0 false .int := ⟨zfd_0_14, zty0, znm0, rfl, by decide +kernel, rfl⟩
theorem zfd_0_15 : zFd 0 15 RX0 TX0 21 0 := ⟨rfl, in_X0, by decide, rfl, by decide, by decide⟩
theorem zpd_0_15 : zPd 0 15 RX0 TX0 21 0 false .int := ⟨zfd_0_15, zty0, znm0, rfl, by decide +kernel, rfl⟩
theorem zfd_0_16 : zFd 0 16 RX0 TX0 21 0 := ⟨rfl, in_X0, by decide, rfl, by decide, by decide⟩
theorem zpd_0_16 : zPd 0 16 RX0 TX0 21 0 false .int := ⟨zfd_0_16, zty0, znm0, rfl, by decide +kernel, rfl⟩
theorem zfd_0_17 : zFd 0 17 RX0 TX0 21 2 := ⟨rfl, in_X0, by decide, rfl, by decide, by decide⟩
theorem zpd_0_17 : zPd 0 17 RX0 TX0 21 2 true (.array .int) := ⟨zfd_0_17, zty0, znm0, rfl, by decide +kernel, rfl⟩
theorem zfd_0_18 : zFd 0 18 RX0 TX0 21 0 := ⟨rfl, in_X0, by decide, rfl, by decide, by decide⟩
theorem zpd_0_18 : zPd 0 18 RX0 TX0 21 0 false .int := ⟨zfd_0_18, zty0, znm0, rfl, by decide +kernel, rfl⟩
theorem zfd_0_19 : zFd 0 19 RX0 TX0 21 2 := ⟨rfl, in_X0, by decide, rfl, by decide, by decide⟩
theorem zpd_0_19 : zPd 0 19 RX0 TX0 21 2 true (.array .int) := ⟨zfd_0_19, zty0, znm0, rfl, by decide +kernel, rfl⟩
theorem zfd_0_20 : zFd 0 20 RX0 TX0 21 2 := ⟨rfl, in_X0, by decide, rfl, by decide, by decide⟩
theorem zpd_0_20 : zPd 0 20 RX0 TX0 21 2 true (.array .byte) := ⟨zfd_0_20, zty0, znm0, rfl, by decide +kernel, rfl⟩
theorem znd_0 : zNd 0 RX0 TX0 21 := ⟨rfl, in_X0, ⟨tyX0, tyX0_ok, by decide⟩, q159, q123, by decide, rfl⟩
theorem zc1 : zCl[1]? = some (RX1, TX1, 12) := rfl
theorem zty1 : ∃ ty0 : Nat → FieldType, ∀ k, k < 12 → parseFieldDescriptor (TX1 k).2.2.1 = some (ty0 k) := ⟨tyX1, tyX1_ok⟩
theorem znm1 : ∀ a, a < 12 → ∀ b, b < 12 → a ≠ b → (TX1 a).2.1 ≠ (TX1 b).2.1 := nmX1
theorem zfd_1_0 : zFd 1 0 RX1 TX1 12 2 := ⟨rfl, in_X1, by decide, rfl, by decide, by decide⟩
theorem zpd_1_0 : zPd 1 0 RX1 TX1 12 2 true (.array .int) := ⟨zfd_1_0, zty1, znm1, rfl, by decide +kernel, rfl⟩
theorem zfd_1_1 : zFd 1 1 RX1 TX1 12 2 := ⟨rfl, in_X1, by decide, rfl, by decide, by decide⟩
theorem zpd_1_1 : zPd 1 1 RX1 TX1 12 2 true (.array .int) := ⟨zfd_1_1, zty1, znm1, rfl, by decide +kernel, rfl⟩
theorem zfd_1_2 : zFd 1 2 RX1 TX1 12 2 := ⟨rfl, in_X1, by decide, rfl, by decide, by decide⟩
theorem zpd_1_2 : zPd 1 2 RX1 TX1 12 2 true (.array .int) := ⟨zfd_1_2, zty1, znm1, rfl, by decide +kernel, rfl⟩
theorem zfd_1_3 : zFd 1 3 RX1 TX1 12 2 := ⟨rfl, in_X1, by decide, rfl, by decide, by decide⟩
theorem zpd_1_3 : zPd 1 3 RX1 TX1 12 2 true (.array .int) := ⟨zfd_1_3, zty1, znm1, rfl, by decide +kernel, rfl⟩
theorem zfd_1_4 : zFd 1 4 RX1 TX1 12 2 := ⟨rfl, in_X1, by decide, rfl, by decide, by decide⟩
theorem zpd_1_4 : zPd 1 4 RX1 TX1 12 2 true (.array .int) := ⟨zfd_1_4, zty1, znm1, rfl, by decide +kernel, rfl⟩
theorem zfd_1_5 : zFd 1 5 RX1 TX1 12 2 := ⟨rfl, in_X1, by decide, rfl, by decide, by decide⟩
theorem zpd_1_5 : zPd 1 5 RX1 TX1 12 2 true (.array .int) := ⟨zfd_1_5, zty1, znm1, rfl, by decide +kernel, rfl⟩
theorem zfd_1_6 : zFd 1 6 RX1 TX1 12 2 := ⟨rfl, in_X1, by decide, rfl, by decide, by decide⟩
theorem zpd_1_6 : zPd 1 6 RX1 TX1 12 2 true (.array (.array .int)) := ⟨zfd_1_6, zty1, znm1, rfl, by decide +kernel, rfl⟩
theorem zfd_1_7 : zFd 1 7 RX1 TX1 12 2 := ⟨rfl, in_X1, by decide, rfl, by decide, by decide⟩
theorem zpd_1_7 : zPd 1 7 RX1 TX1 12 2 true (.array (.array .int)) := ⟨zfd_1_7, zty1, znm1, rfl, by decide +kernel, rfl⟩
theorem zfd_1_8 : zFd 1 8 RX1 TX1 12 2 := ⟨rfl, in_X1, by decide, rfl, by decide, by decide⟩
theorem zpd_1_8 : zPd 1 8 RX1 TX1 12 2 true (.array (.array .int)) := ⟨zfd_1_8, zty1, znm1, rfl, by decide +kernel, rfl⟩
theorem zfd_1_9 : zFd 1 9 RX1 TX1 12 2 := ⟨rfl, in_X1, by decide, rfl, by decide, by decide⟩
theorem zpd_1_9 : zPd 1 9 RX1 TX1 12 2 true (.array (.array .int)) := ⟨zfd_1_9, zty1, znm1, rfl, by decide +kernel, rfl⟩
theorem zfd_1_10 : zFd 1 10 RX1 TX1 12 2 := ⟨rfl, in_X1, by decide, rfl, by decide, by decide⟩
theorem zpd_1_10 : zPd 1 10 RX1 TX1 12 2 true (.array (.array .int)) := ⟨zfd_1_10, zty1, znm1, rfl, by decide +kernel, rfl⟩
theorem zfd_1_11 : zFd 1 11 RX1 TX1 12 2 := ⟨rfl, in_X1, by decide, rfl, by decide, by decide⟩
theorem zpd_1_11 : zPd 1 11 RX1 TX1 12 2 true (.array (.object "QuiverKin$Text")) := ⟨zfd_1_11, zty1, znm1, rfl, by decide +kernel, rfl⟩
theorem znd_1 : zNd 1 RX1 TX1 12 := ⟨rfl, in_X1, ⟨tyX1, tyX1_ok, by decide⟩, q167, q124, by decide, rfl⟩
theorem zc2 : zCl[2]? = some (RX2, TX2, 39) := rfl
theorem zty2 : ∃ ty0 : Nat → FieldType, ∀ k, k < 39 → parseFieldDescriptor (TX2 k).2.2.1 = some (ty0 k) := ⟨tyX2, tyX2_ok⟩
theorem znm2 : ∀ a, a < 39 → ∀ b, b < 39 → a ≠ b → (TX2 a).2.1 ≠ (TX2 b).2.1 := nmX2
theorem zfd_2_0 : zFd 2 0 RX2 TX2 39 2 := ⟨rfl, in_X2, by decide, rfl, by decide, by decide⟩
theorem zpd_2_0 : zPd 2 0 RX2 TX2 39 2 true (.array .int) := ⟨zfd_2_0, zty2, znm2, rfl, by decide +kernel, rfl⟩
theorem zfd_2_1 : zFd 2 1 RX2 TX2 39 2 := ⟨rfl, in_X2, by decide, rfl, by decide, by decide⟩
theorem zpd_2_1 : zPd 2 1 RX2 TX2 39 2 true (.array .int) := ⟨zfd_2_1, zty2, znm2, rfl, by decide +kernel, rfl⟩
theorem zfd_2_2 : zFd 2 2 RX2 TX2 39 2 := ⟨rfl, in_X2, by decide, rfl, by decide, by decide⟩
theorem zpd_2_2 : zPd 2 2 RX2 TX2 39 2 true (.array .int) := ⟨zfd_2_2, zty2, znm2, rfl, by decide +kernel, rfl⟩
theorem zfd_2_3 : zFd 2 3 RX2 TX2 39 2 := ⟨rfl, in_X2, by decide, rfl, by decide, by decide⟩
theorem zpd_2_3 : zPd 2 3 RX2 TX2 39 2 true (.array .int) := ⟨zfd_2_3, zty2, znm2, rfl, by decide +kernel, rfl⟩
theorem zfd_2_4 : zFd 2 4 RX2 TX2 39 0 := ⟨rfl, in_X2, by decide, rfl, by decide, by decide⟩
theorem zpd_2_4 : zPd 2 4 RX2 TX2 39 0 false .int := ⟨zfd_2_4, zty2, znm2, rfl, by decide +kernel, rfl⟩
theorem zfd_2_5 : zFd 2 5 RX2 TX2 39 0 := ⟨rfl, in_X2, by decide, rfl, by decide, by decide⟩
theorem zpd_2_5 : zPd 2 5 RX2 TX2 39 0 false .int := ⟨zfd_2_5, zty2, znm2, rfl, by decide +kernel, rfl⟩
theorem zfd_2_6 : zFd 2 6 RX2 TX2 39 0 := ⟨rfl, in_X2, by decide, rfl, by decide, by decide⟩
theorem zpd_2_6 : zPd 2 6 RX2 TX2 39 0 false .int := ⟨zfd_2_6, zty2, znm2, rfl, by decide +kernel, rfl⟩
theorem zfd_2_7 : zFd 2 7 RX2 TX2 39 0 := ⟨rfl, in_X2, by decide, rfl, by decide, by decide⟩
theorem zpd_2_7 : zPd 2 7 RX2 TX2 39 0 false .int := ⟨zfd_2_7, zty2, znm2, rfl, by decide +kernel, rfl⟩
theorem zfd_2_8 : zFd 2 8 RX2 TX2 39 0 := ⟨rfl, in_X2, by decide, rfl, by decide, by decide⟩
theorem zpd_2_8 : zPd 2 8 RX2 TX2 39 0 false .int := ⟨zfd_2_8, zty2, znm2, rfl, by decide +kernel, rfl⟩
theorem zfd_2_9 : zFd 2 9 RX2 TX2 39 0 := ⟨rfl, in_X2, by decide, rfl, by decide, by decide⟩
theorem zpd_2_9 : zPd 2 9 RX2 TX2 39 0 false .int := ⟨zfd_2_9, zty2, znm2, rfl, by decide +kernel, rfl⟩
theorem zfd_2_10 : zFd 2 10 RX2 TX2 39 0 := ⟨rfl, in_X2, by decide, rfl, by decide, by decide⟩
theorem zpd_2_10 : zPd 2 10 RX2 TX2 39 0 false .int := ⟨zfd_2_10, zty2, znm2, rfl, by decide +kernel, rfl⟩
theorem zfd_2_11 : zFd 2 11 RX2 TX2 39 1 := ⟨rfl, in_X2, by decide, rfl, by decide, by decide⟩
theorem zpd_2_11 : zPd 2 11 RX2 TX2 39 1 false .long := ⟨zfd_2_11, zty2, znm2, rfl, by decide +kernel, rfl⟩
theorem zfd_2_12 : zFd 2 12 RX2 TX2 39 0 := ⟨rfl, in_X2, by decide, rfl, by decide, by decide⟩
theorem zpd_2_12 : zPd 2 12 RX2 TX2 39 0 false .int := ⟨zfd_2_12, zty2, znm2, rfl, by decide +kernel, rfl⟩
theorem zfd_2_13 : zFd 2 13 RX2 TX2 39 0 := ⟨rfl, in_X2, by decide, rfl, by decide, by decide⟩
theorem zpd_2_13 : zPd 2 13 RX2 TX2 39 0 false .int := ⟨zfd_2_13, zty2, znm2, rfl, by decide +kernel, rfl⟩
theorem zfd_2_14 : zFd 2 14 RX2 TX2 39 0 := ⟨rfl, in_X2, by decide, rfl, by decide, by decide⟩
theorem zpd_2_14 : zPd 2 14 RX2 TX2 39 0 false .int := ⟨zfd_2_14, zty2, znm2, rfl, by decide +kernel, rfl⟩
theorem zfd_2_15 : zFd 2 15 RX2 TX2 39 2 := ⟨rfl, in_X2, by decide, rfl, by decide, by decide⟩
theorem zpd_2_15 : zPd 2 15 RX2 TX2 39 2 true (.array .int) := ⟨zfd_2_15, zty2, znm2, rfl, by decide +kernel, rfl⟩
theorem zfd_2_16 : zFd 2 16 RX2 TX2 39 0 := ⟨rfl, in_X2, by decide, rfl, by decide, by decide⟩
theorem zpd_2_16 : zPd 2 16 RX2 TX2 39 0 false .int := ⟨zfd_2_16, zty2, znm2, rfl, by decide +kernel, rfl⟩
theorem zfd_2_17 : zFd 2 17 RX2 TX2 39 0 := ⟨rfl, in_X2, by decide, rfl, by decide, by decide⟩
theorem zpd_2_17 : zPd 2 17 RX2 TX2 39 0 false .int := ⟨zfd_2_17, zty2, znm2, rfl, by decide +kernel, rfl⟩
theorem zfd_2_18 : zFd 2 18 RX2 TX2 39 0 := ⟨rfl, in_X2, by decide, rfl, by decide, by decide⟩
theorem zpd_2_18 : zPd 2 18 RX2 TX2 39 0 false .boolean := ⟨zfd_2_18, zty2, znm2, rfl, by decide +kernel, rfl⟩
theorem zfd_2_19 : zFd 2 19 RX2 TX2 39 0 := ⟨rfl, in_X2, by decide, rfl, by decide, by decide⟩
theorem zpd_2_19 : zPd 2 19 RX2 TX2 39 0 false .int := ⟨zfd_2_19, zty2, znm2, rfl, by decide +kernel, rfl⟩
theorem zfd_2_20 : zFd 2 20 RX2 TX2 39 2 := ⟨rfl, in_X2, by decide, rfl, by decide, by decide⟩
theorem zpd_2_20 : zPd 2 20 RX2 TX2 39 2 true (.array .int) := ⟨zfd_2_20, zty2, znm2, rfl, by decide +kernel, rfl⟩
theorem zfd_2_21 : zFd 2 21 RX2 TX2 39 2 := ⟨rfl, in_X2, by decide, rfl, by decide, by decide⟩
theorem zpd_2_21 : zPd 2 21 RX2 TX2 39 2 true (.array .long) := ⟨zfd_2_21, zty2, znm2, rfl, by decide +kernel, rfl⟩
theorem zfd_2_22 : zFd 2 22 RX2 TX2 39 2 := ⟨rfl, in_X2, by decide, rfl, by decide, by decide⟩
theorem zpd_2_22 : zPd 2 22 RX2 TX2 39 2 true (.array .boolean) := ⟨zfd_2_22, zty2, znm2, rfl, by decide +kernel, rfl⟩
theorem zfd_2_23 : zFd 2 23 RX2 TX2 39 0 := ⟨rfl, in_X2, by decide, rfl, by decide, by decide⟩
theorem zpd_2_23 : zPd 2 23 RX2 TX2 39 0 false .boolean := ⟨zfd_2_23, zty2, znm2, rfl, by decide +kernel, rfl⟩
theorem zfd_2_24 : zFd 2 24 RX2 TX2 39 0 := ⟨rfl, in_X2, by decide, rfl, by decide, by decide⟩
theorem zpd_2_24 : zPd 2 24 RX2 TX2 39 0 false .int := ⟨zfd_2_24, zty2, znm2, rfl, by decide +kernel, rfl⟩
theorem zfd_2_25 : zFd 2 25 RX2 TX2 39 2 := ⟨rfl, in_X2, by decide, rfl, by decide, by decide⟩
theorem zpd_2_25 : zPd 2 25 RX2 TX2 39 2 true (.array .int) := ⟨zfd_2_25, zty2, znm2, rfl, by decide +kernel, rfl⟩
theorem zfd_2_26 : zFd 2 26 RX2 TX2 39 2 := ⟨rfl, in_X2, by decide, rfl, by decide, by decide⟩
theorem zpd_2_26 : zPd 2 26 RX2 TX2 39 2 true (.array .int) := ⟨zfd_2_26, zty2, znm2, rfl, by decide +kernel, rfl⟩
theorem zfd_2_27 : zFd 2 27 RX2 TX2 39 2 := ⟨rfl, in_X2, by decide, rfl, by decide, by decide⟩
theorem zpd_2_27 : zPd 2 27 RX2 TX2 39 2 true (.array .int) := ⟨zfd_2_27, zty2, znm2, rfl, by decide +kernel, rfl⟩
theorem zfd_2_28 : zFd 2 28 RX2 TX2 39 0 := ⟨rfl, in_X2, by decide, rfl, by decide, by decide⟩
theorem zpd_2_28 : zPd 2 28 RX2 TX2 39 0 false .int := ⟨zfd_2_28, zty2, znm2, rfl, by decide +kernel, rfl⟩
theorem zfd_2_29 : zFd 2 29 RX2 TX2 39 0 := ⟨rfl, in_X2, by decide, rfl, by decide, by decide⟩
theorem zpd_2_29 : zPd 2 29 RX2 TX2 39 0 false .int := ⟨zfd_2_29, zty2, znm2, rfl, by decide +kernel, rfl⟩
theorem zfd_2_30 : zFd 2 30 RX2 TX2 39 0 := ⟨rfl, in_X2, by decide, rfl, by decide, by decide⟩
theorem zpd_2_30 : zPd 2 30 RX2 TX2 39 0 false .int := ⟨zfd_2_30, zty2, znm2, rfl, by decide +kernel, rfl⟩
theorem zfd_2_31 : zFd 2 31 RX2 TX2 39 2 := ⟨rfl, in_X2, by decide, rfl, by decide, by decide⟩
theorem zpd_2_31 : zPd 2 31 RX2 TX2 39 2 true (.array .boolean) := ⟨zfd_2_31, zty2, znm2, rfl, by decide +kernel, rfl⟩
theorem zfd_2_32 : zFd 2 32 RX2 TX2 39 0 := ⟨rfl, in_X2, by decide, rfl, by decide, by decide⟩
theorem zpd_2_32 : zPd 2 32 RX2 TX2 39 0 false .int := ⟨zfd_2_32, zty2, znm2, rfl, by decide +kernel, rfl⟩
theorem zfd_2_33 : zFd 2 33 RX2 TX2 39 0 := ⟨rfl, in_X2, by decide, rfl, by decide, by decide⟩
theorem zpd_2_33 : zPd 2 33 RX2 TX2 39 0 false .int := ⟨zfd_2_33, zty2, znm2, rfl, by decide +kernel, rfl⟩
theorem zfd_2_34 : zFd 2 34 RX2 TX2 39 0 := ⟨rfl, in_X2, by decide, rfl, by decide, by decide⟩
theorem zpd_2_34 : zPd 2 34 RX2 TX2 39 0 false .int := ⟨zfd_2_34, zty2, znm2, rfl, by decide +kernel, rfl⟩
theorem zfd_2_35 : zFd 2 35 RX2 TX2 39 0 := ⟨rfl, in_X2, by decide, rfl, by decide, by decide⟩
theorem zpd_2_35 : zPd 2 35 RX2 TX2 39 0 false .int := ⟨zfd_2_35, zty2, znm2, rfl, by decide +kernel, rfl⟩
theorem zfd_2_36 : zFd 2 36 RX2 TX2 39 2 := ⟨rfl, in_X2, by decide, rfl, by decide, by decide⟩
theorem zpd_2_36 : zPd 2 36 RX2 TX2 39 2 true (.array .int) := ⟨zfd_2_36, zty2, znm2, rfl, by decide +kernel, rfl⟩
theorem zfd_2_37 : zFd 2 37 RX2 TX2 39 2 := ⟨rfl, in_X2, by decide, rfl, by decide, by decide⟩
theorem zpd_2_37 : zPd 2 37 RX2 TX2 39 2 true (.array .int) := ⟨zfd_2_37, zty2, znm2, rfl, by decide +kernel, rfl⟩
theorem zfd_2_38 : zFd 2 38 RX2 TX2 39 2 := ⟨rfl, in_X2, by decide, rfl, by decide, by decide⟩
theorem zpd_2_38 : zPd 2 38 RX2 TX2 39 2 true (.array .boolean) := ⟨zfd_2_38, zty2, znm2, rfl, by decide +kernel, rfl⟩
theorem znd_2 : zNd 2 RX2 TX2 39 := ⟨rfl, in_X2, ⟨tyX2, tyX2_ok, by decide⟩, q1402, q126, by decide, rfl⟩
theorem zc3 : zCl[3]? = some (RX3, TX3, 8) := rfl
theorem zty3 : ∃ ty0 : Nat → FieldType, ∀ k, k < 8 → parseFieldDescriptor (TX3 k).2.2.1 = some (ty0 k) := ⟨tyX3, tyX3_ok⟩
theorem znm3 : ∀ a, a < 8 → ∀ b, b < 8 → a ≠ b → (TX3 a).2.1 ≠ (TX3 b).2.1 := nmX3
theorem zfd_3_0 : zFd 3 0 RX3 TX3 8 2 := ⟨rfl, in_X3, by decide, rfl, by decide, by decide⟩
theorem zpd_3_0 : zPd 3 0 RX3 TX3 8 2 true (.array .byte) := ⟨zfd_3_0, zty3, znm3, rfl, by decide +kernel, rfl⟩
theorem zfd_3_1 : zFd 3 1 RX3 TX3 8 0 := ⟨rfl, in_X3, by decide, rfl, by decide, by decide⟩
theorem zpd_3_1 : zPd 3 1 RX3 TX3 8 0 true .int := ⟨zfd_3_1, zty3, znm3, rfl, by decide +kernel, rfl⟩
theorem zfd_3_2 : zFd 3 2 RX3 TX3 8 0 := ⟨rfl, in_X3, by decide, rfl, by decide, by decide⟩
theorem zpd_3_2 : zPd 3 2 RX3 TX3 8 0 false .int := ⟨zfd_3_2, zty3, znm3, rfl, by decide +kernel, rfl⟩
theorem zfd_3_3 : zFd 3 3 RX3 TX3 8 0 := ⟨rfl, in_X3, by decide, rfl, by decide, by decide⟩
theorem zpd_3_3 : zPd 3 3 RX3 TX3 8 0 false .int := ⟨zfd_3_3, zty3, znm3, rfl, by decide +kernel, rfl⟩
theorem zfd_3_4 : zFd 3 4 RX3 TX3 8 0 := ⟨rfl, in_X3, by decide, rfl, by decide, by decide⟩
theorem zpd_3_4 : zPd 3 4 RX3 TX3 8 0 false .int := ⟨zfd_3_4, zty3, znm3, rfl, by decide +kernel, rfl⟩
theorem zfd_3_5 : zFd 3 5 RX3 TX3 8 0 := ⟨rfl, in_X3, by decide, rfl, by decide, by decide⟩
theorem zpd_3_5 : zPd 3 5 RX3 TX3 8 0 false .int := ⟨zfd_3_5, zty3, znm3, rfl, by decide +kernel, rfl⟩
theorem zfd_3_6 : zFd 3 6 RX3 TX3 8 0 := ⟨rfl, in_X3, by decide, rfl, by decide, by decide⟩
theorem zpd_3_6 : zPd 3 6 RX3 TX3 8 0 false .int := ⟨zfd_3_6, zty3, znm3, rfl, by decide +kernel, rfl⟩
theorem zfd_3_7 : zFd 3 7 RX3 TX3 8 0 := ⟨rfl, in_X3, by decide, rfl, by decide, by decide⟩
theorem zpd_3_7 : zPd 3 7 RX3 TX3 8 0 false .int := ⟨zfd_3_7, zty3, znm3, rfl, by decide +kernel, rfl⟩
theorem znd_3 : zNd 3 RX3 TX3 8 := ⟨rfl, in_X3, ⟨tyX3, tyX3_ok, by decide⟩, q337, q127, by decide, rfl⟩
theorem zc4 : zCl[4]? = some (RX4, TX4, 3) := rfl
theorem zty4 : ∃ ty0 : Nat → FieldType, ∀ k, k < 3 → parseFieldDescriptor (TX4 k).2.2.1 = some (ty0 k) := ⟨tyX4, tyX4_ok⟩
theorem znm4 : ∀ a, a < 3 → ∀ b, b < 3 → a ≠ b → (TX4 a).2.1 ≠ (TX4 b).2.1 := nmX4
theorem zfd_4_0 : zFd 4 0 RX4 TX4 3 2 := ⟨rfl, in_X4, by decide, rfl, by decide, by decide⟩
theorem zpd_4_0 : zPd 4 0 RX4 TX4 3 2 true (.array (.object "QuiverKin$Sum")) := ⟨zfd_4_0, zty4, znm4, rfl, by decide +kernel, rfl⟩
theorem zfd_4_1 : zFd 4 1 RX4 TX4 3 0 := ⟨rfl, in_X4, by decide, rfl, by decide, by decide⟩
theorem zpd_4_1 : zPd 4 1 RX4 TX4 3 0 false .int := ⟨zfd_4_1, zty4, znm4, rfl, by decide +kernel, rfl⟩
theorem zfd_4_2 : zFd 4 2 RX4 TX4 3 2 := ⟨rfl, in_X4, by decide, rfl, by decide, by decide⟩
theorem zpd_4_2 : zPd 4 2 RX4 TX4 3 2 true (.object "java/util/ArrayList") := ⟨zfd_4_2, zty4, znm4, rfl, by decide +kernel, rfl⟩
theorem znd_4 : zNd 4 RX4 TX4 3 := ⟨rfl, in_X4, ⟨tyX4, tyX4_ok, by decide⟩, q372, q128, by decide, rfl⟩
theorem zc5 : zCl[5]? = some (RX5, zTW, 3) := rfl
theorem zty5 : ∃ ty0 : Nat → FieldType, ∀ k, k < 3 → parseFieldDescriptor (zTW k).2.2.1 = some (ty0 k) := ⟨fun k => if k = 2 then .object "java/lang/Object" else .int, by decide +kernel⟩
theorem znm5 : ∀ a, a < 3 → ∀ b, b < 3 → a ≠ b → (zTW a).2.1 ≠ (zTW b).2.1 := (by decide +kernel)
theorem zfd_5_0 : zFd 5 0 RX5 zTW 3 0 := ⟨rfl, zTW_in, by decide, rfl, by decide, by decide⟩
theorem zpd_5_0 : zPd 5 0 RX5 zTW 3 0 true .int := ⟨zfd_5_0, zty5, znm5, rfl, by decide +kernel, rfl⟩
theorem zfd_5_1 : zFd 5 1 RX5 zTW 3 0 := ⟨rfl, zTW_in, by decide, rfl, by decide, by decide⟩
theorem zpd_5_1 : zPd 5 1 RX5 zTW 3 0 true .int := ⟨zfd_5_1, zty5, znm5, rfl, by decide +kernel, rfl⟩
theorem zfd_5_2 : zFd 5 2 RX5 zTW 3 2 := ⟨rfl, zTW_in, by decide, rfl, by decide, by decide⟩
theorem zpd_5_2 : zPd 5 2 RX5 zTW 3 2 false (.object "java/lang/Object") := ⟨zfd_5_2, zty5, znm5, rfl, by decide +kernel, rfl⟩
theorem znd_5 : zNd 5 RX5 zTW 3 := ⟨rfl, zTW_in, ⟨fun k => if k = 2 then .object "java/lang/Object" else .int, by decide +kernel, by decide⟩, q493, q139, by decide, rfl⟩
theorem zc6 : zCl[6]? = some (RX6, TX6, 3) := rfl
theorem zty6 : ∃ ty0 : Nat → FieldType, ∀ k, k < 3 → parseFieldDescriptor (TX6 k).2.2.1 = some (ty0 k) := ⟨tyX6, tyX6_ok⟩
theorem znm6 : ∀ a, a < 3 → ∀ b, b < 3 → a ≠ b → (TX6 a).2.1 ≠ (TX6 b).2.1 := nmX6
theorem zfd_6_0 : zFd 6 0 RX6 TX6 3 2 := ⟨rfl, in_X6, by decide, rfl, by decide, by decide⟩
theorem zpd_6_0 : zPd 6 0 RX6 TX6 3 2 true (.object "QuiverKin$Sum") := ⟨zfd_6_0, zty6, znm6, rfl, by decide +kernel, rfl⟩
theorem zfd_6_1 : zFd 6 1 RX6 TX6 3 2 := ⟨rfl, in_X6, by decide, rfl, by decide, by decide⟩
theorem zpd_6_1 : zPd 6 1 RX6 TX6 3 2 true (.object "java/util/ArrayList") := ⟨zfd_6_1, zty6, znm6, rfl, by decide +kernel, rfl⟩
theorem zfd_6_2 : zFd 6 2 RX6 TX6 3 2 := ⟨rfl, in_X6, by decide, rfl, by decide, by decide⟩
theorem zpd_6_2 : zPd 6 2 RX6 TX6 3 2 true (.object "java/util/ArrayList") := ⟨zfd_6_2, zty6, znm6, rfl, by decide +kernel, rfl⟩
theorem znd_6 : zNd 6 RX6 TX6 3 := ⟨rfl, in_X6, ⟨tyX6, tyX6_ok, by decide⟩, q561, q140, by decide, rfl⟩
theorem zc7 : zCl[7]? = some (RX7, TX7, 1) := rfl
theorem zty7 : ∃ ty0 : Nat → FieldType, ∀ k, k < 1 → parseFieldDescriptor (TX7 k).2.2.1 = some (ty0 k) := ⟨tyX7, tyX7_ok⟩
theorem znm7 : ∀ a, a < 1 → ∀ b, b < 1 → a ≠ b → (TX7 a).2.1 ≠ (TX7 b).2.1 := nmX7
theorem zfd_7_0 : zFd 7 0 RX7 TX7 1 0 := ⟨rfl, in_X7, by decide, rfl, by decide, by decide⟩
theorem zpd_7_0 : zPd 7 0 RX7 TX7 1 0 true .int := ⟨zfd_7_0, zty7, znm7, rfl, by decide +kernel, rfl⟩
theorem znd_7 : zNd 7 RX7 TX7 1 := ⟨rfl, in_X7, ⟨tyX7, tyX7_ok, by decide⟩, q571, q142, by decide, rfl⟩
theorem zc8 : zCl[8]? = some (RX8, TX8, 1) := rfl
theorem zty8 : ∃ ty0 : Nat → FieldType, ∀ k, k < 1 → parseFieldDescriptor (TX8 k).2.2.1 = some (ty0 k) := ⟨tyX8, tyX8_ok⟩
theorem znm8 : ∀ a, a < 1 → ∀ b, b < 1 → a ≠ b → (TX8 a).2.1 ≠ (TX8 b).2.1 := nmX8
theorem zfd_8_0 : zFd 8 0 RX8 TX8 1 2 := ⟨rfl, in_X8, by decide, rfl, by decide, by decide⟩
theorem zpd_8_0 : zPd 8 0 RX8 TX8 1 2 true (.object "QuiverKin$Asked") := ⟨zfd_8_0, zty8, znm8, rfl, by decide +kernel, rfl⟩
theorem znd_8 : zNd 8 RX8 TX8 1 := ⟨rfl, in_X8, ⟨tyX8, tyX8_ok, by decide⟩, q610, q143, by decide, rfl⟩
theorem zc9 : zCl[9]? = some (RX9, TX9, 3) := rfl
theorem zty9 : ∃ ty0 : Nat → FieldType, ∀ k, k < 3 → parseFieldDescriptor (TX9 k).2.2.1 = some (ty0 k) := ⟨tyX9, tyX9_ok⟩
theorem znm9 : ∀ a, a < 3 → ∀ b, b < 3 → a ≠ b → (TX9 a).2.1 ≠ (TX9 b).2.1 := nmX9
theorem zfd_9_0 : zFd 9 0 RX9 TX9 3 0 := ⟨rfl, in_X9, by decide, rfl, by decide, by decide⟩
theorem zpd_9_0 : zPd 9 0 RX9 TX9 3 0 true .int := ⟨zfd_9_0, zty9, znm9, rfl, by decide +kernel, rfl⟩
theorem zfd_9_1 : zFd 9 1 RX9 TX9 3 2 := ⟨rfl, in_X9, by decide, rfl, by decide, by decide⟩
theorem zpd_9_1 : zPd 9 1 RX9 TX9 3 2 true (.object "QuiverKin$Sum") := ⟨zfd_9_1, zty9, znm9, rfl, by decide +kernel, rfl⟩
theorem zfd_9_2 : zFd 9 2 RX9 TX9 3 2 := ⟨rfl, in_X9, by decide, rfl, by decide, by decide⟩
theorem zpd_9_2 : zPd 9 2 RX9 TX9 3 2 true (.object "QuiverKin$Sum") := ⟨zfd_9_2, zty9, znm9, rfl, by decide +kernel, rfl⟩
theorem znd_9 : zNd 9 RX9 TX9 3 := ⟨rfl, in_X9, ⟨tyX9, tyX9_ok, by decide⟩, q620, q144, by decide, rfl⟩
theorem zc10 : zCl[10]? = some (RX10, TX10, 2) := rfl
theorem zty10 : ∃ ty0 : Nat → FieldType, ∀ k, k < 2 → parseFieldDescriptor (TX10 k).2.2.1 = some (ty0 k) := ⟨tyX10, tyX10_ok⟩
theorem znm10 : ∀ a, a < 2 → ∀ b, b < 2 → a ≠ b → (TX10 a).2.1 ≠ (TX10 b).2.1 := nmX10
theorem zfd_10_0 : zFd 10 0 RX10 TX10 2 0 := ⟨rfl, in_X10, by decide, rfl, by decide, by decide⟩
theorem zpd_10_0 : zPd 10 0 RX10 TX10 2 0 true .boolean := ⟨zfd_10_0, zty10, znm10, rfl, by decide +kernel, rfl⟩
theorem zfd_10_1 : zFd 10 1 RX10 TX10 2 2 := ⟨rfl, in_X10, by decide, rfl, by decide, by decide⟩
theorem zpd_10_1 : zPd 10 1 RX10 TX10 2 2 true (.object "java/util/ArrayList") := ⟨zfd_10_1, zty10, znm10, rfl, by decide +kernel, rfl⟩
theorem znd_10 : zNd 10 RX10 TX10 2 := ⟨rfl, in_X10, ⟨tyX10, tyX10_ok, by decide⟩, q715, q148, by decide, rfl⟩
theorem zc11 : zCl[11]? = some (RX11, TX11, 3) := rfl
theorem zty11 : ∃ ty0 : Nat → FieldType, ∀ k, k < 3 → parseFieldDescriptor (TX11 k).2.2.1 = some (ty0 k) := ⟨tyX11, tyX11_ok⟩
theorem znm11 : ∀ a, a < 3 → ∀ b, b < 3 → a ≠ b → (TX11 a).2.1 ≠ (TX11 b).2.1 := nmX11
theorem zfd_11_0 : zFd 11 0 RX11 TX11 3 2 := ⟨rfl, in_X11, by decide, rfl, by decide, by decide⟩
theorem zpd_11_0 : zPd 11 0 RX11 TX11 3 2 true (.object "QuiverKin$Asked") := ⟨zfd_11_0, zty11, znm11, rfl, by decide +kernel, rfl⟩
theorem zfd_11_1 : zFd 11 1 RX11 TX11 3 2 := ⟨rfl, in_X11, by decide, rfl, by decide, by decide⟩
theorem zpd_11_1 : zPd 11 1 RX11 TX11 3 2 true (.object "QuiverKin$Sum") := ⟨zfd_11_1, zty11, znm11, rfl, by decide +kernel, rfl⟩
theorem zfd_11_2 : zFd 11 2 RX11 TX11 3 2 := ⟨rfl, in_X11, by decide, rfl, by decide, by decide⟩
theorem zpd_11_2 : zPd 11 2 RX11 TX11 3 2 true (.object "QuiverKin$Sum") := ⟨zfd_11_2, zty11, znm11, rfl, by decide +kernel, rfl⟩
theorem znd_11 : zNd 11 RX11 TX11 3 := ⟨rfl, in_X11, ⟨tyX11, tyX11_ok, by decide⟩, q732, q149, by decide, rfl⟩
theorem zc12 : zCl[12]? = some (RX12, TX12, 1) := rfl
theorem zty12 : ∃ ty0 : Nat → FieldType, ∀ k, k < 1 → parseFieldDescriptor (TX12 k).2.2.1 = some (ty0 k) := ⟨tyX12, tyX12_ok⟩
theorem znm12 : ∀ a, a < 1 → ∀ b, b < 1 → a ≠ b → (TX12 a).2.1 ≠ (TX12 b).2.1 := nmX12
theorem zfd_12_0 : zFd 12 0 RX12 TX12 1 0 := ⟨rfl, in_X12, by decide, rfl, by decide, by decide⟩
theorem zpd_12_0 : zPd 12 0 RX12 TX12 1 0 true .int := ⟨zfd_12_0, zty12, znm12, rfl, by decide +kernel, rfl⟩
theorem znd_12 : zNd 12 RX12 TX12 1 := ⟨rfl, in_X12, ⟨tyX12, tyX12_ok, by decide⟩, q758, q150, by decide, rfl⟩
theorem zc13 : zCl[13]? = some (RX13, TX13, 1) := rfl
theorem zty13 : ∃ ty0 : Nat → FieldType, ∀ k, k < 1 → parseFieldDescriptor (TX13 k).2.2.1 = some (ty0 k) := ⟨tyX13, tyX13_ok⟩
theorem znm13 : ∀ a, a < 1 → ∀ b, b < 1 → a ≠ b → (TX13 a).2.1 ≠ (TX13 b).2.1 := nmX13
theorem zfd_13_0 : zFd 13 0 RX13 TX13 1 2 := ⟨rfl, in_X13, by decide, rfl, by decide, by decide⟩
theorem zpd_13_0 : zPd 13 0 RX13 TX13 1 2 true (.object "QuiverKin$Sum") := ⟨zfd_13_0, zty13, znm13, rfl, by decide +kernel, rfl⟩
theorem znd_13 : zNd 13 RX13 TX13 1 := ⟨rfl, in_X13, ⟨tyX13, tyX13_ok, by decide⟩, q768, q151, by decide, rfl⟩
theorem zc14 : zCl[14]? = some (RX14, TX14, 1) := rfl
theorem zty14 : ∃ ty0 : Nat → FieldType, ∀ k, k < 1 → parseFieldDescriptor (TX14 k).2.2.1 = some (ty0 k) := ⟨tyX14, tyX14_ok⟩
theorem znm14 : ∀ a, a < 1 → ∀ b, b < 1 → a ≠ b → (TX14 a).2.1 ≠ (TX14 b).2.1 := nmX14
theorem zfd_14_0 : zFd 14 0 RX14 TX14 1 2 := ⟨rfl, in_X14, by decide, rfl, by decide, by decide⟩
theorem zpd_14_0 : zPd 14 0 RX14 TX14 1 2 true (.object "QuiverKin$Sum") := ⟨zfd_14_0, zty14, znm14, rfl, by decide +kernel, rfl⟩
theorem znd_14 : zNd 14 RX14 TX14 1 := ⟨rfl, in_X14, ⟨tyX14, tyX14_ok, by decide⟩, q778, q152, by decide, rfl⟩
theorem zc15 : zCl[15]? = some (RX15, TX15, 1) := rfl
theorem zty15 : ∃ ty0 : Nat → FieldType, ∀ k, k < 1 → parseFieldDescriptor (TX15 k).2.2.1 = some (ty0 k) := ⟨tyX15, tyX15_ok⟩
theorem znm15 : ∀ a, a < 1 → ∀ b, b < 1 → a ≠ b → (TX15 a).2.1 ≠ (TX15 b).2.1 := nmX15
theorem zfd_15_0 : zFd 15 0 RX15 TX15 1 2 := ⟨rfl, in_X15, by decide, rfl, by decide, by decide⟩
theorem zpd_15_0 : zPd 15 0 RX15 TX15 1 2 true (.object "QuiverKin$Sum") := ⟨zfd_15_0, zty15, znm15, rfl, by decide +kernel, rfl⟩
theorem znd_15 : zNd 15 RX15 TX15 1 := ⟨rfl, in_X15, ⟨tyX15, tyX15_ok, by decide⟩, q788, q153, by decide, rfl⟩
theorem zc16 : zCl[16]? = some (RX16, TX16, 4) := rfl
theorem zty16 : ∃ ty0 : Nat → FieldType, ∀ k, k < 4 → parseFieldDescriptor (TX16 k).2.2.1 = some (ty0 k) := ⟨tyX16, tyX16_ok⟩
theorem znm16 : ∀ a, a < 4 → ∀ b, b < 4 → a ≠ b → (TX16 a).2.1 ≠ (TX16 b).2.1 := nmX16
theorem zfd_16_0 : zFd 16 0 RX16 TX16 4 0 := ⟨rfl, in_X16, by decide, rfl, by decide, by decide⟩
theorem zpd_16_0 : zPd 16 0 RX16 TX16 4 0 true .int := ⟨zfd_16_0, zty16, znm16, rfl, by decide +kernel, rfl⟩
theorem zfd_16_1 : zFd 16 1 RX16 TX16 4 0 := ⟨rfl, in_X16, by decide, rfl, by decide, by decide⟩
theorem zpd_16_1 : zPd 16 1 RX16 TX16 4 0 true .int := ⟨zfd_16_1, zty16, znm16, rfl, by decide +kernel, rfl⟩
theorem zfd_16_2 : zFd 16 2 RX16 TX16 4 0 := ⟨rfl, in_X16, by decide, rfl, by decide, by decide⟩
theorem zpd_16_2 : zPd 16 2 RX16 TX16 4 0 true .int := ⟨zfd_16_2, zty16, znm16, rfl, by decide +kernel, rfl⟩
theorem zfd_16_3 : zFd 16 3 RX16 TX16 4 0 := ⟨rfl, in_X16, by decide, rfl, by decide, by decide⟩
theorem zpd_16_3 : zPd 16 3 RX16 TX16 4 0 true .int := ⟨zfd_16_3, zty16, znm16, rfl, by decide +kernel, rfl⟩
theorem znd_16 : zNd 16 RX16 TX16 4 := ⟨rfl, in_X16, ⟨tyX16, tyX16_ok, by decide⟩, q855, q157, by decide, rfl⟩
theorem zc17 : zCl[17]? = some (RJ2, TJ2, 3) := rfl
theorem zty17 : ∃ ty0 : Nat → FieldType, ∀ k, k < 3 → parseFieldDescriptor (TJ2 k).2.2.1 = some (ty0 k) := ⟨tyJ2, tyJ2_ok⟩
theorem znm17 : ∀ a, a < 3 → ∀ b, b < 3 → a ≠ b → (TJ2 a).2.1 ≠ (TJ2 b).2.1 := nmJ2
theorem zfd_17_0 : zFd 17 0 RJ2 TJ2 3 0 := ⟨rfl, in_J2, by decide, rfl, by decide, by decide⟩
theorem zpd_17_0 : zPd 17 0 RJ2 TJ2 3 0 false .int := ⟨zfd_17_0, zty17, znm17, rfl, by decide +kernel, rfl⟩
theorem zfd_17_1 : zFd 17 1 RJ2 TJ2 3 2 := ⟨rfl, in_J2, by decide, rfl, by decide, by decide⟩
theorem zpd_17_1 : zPd 17 1 RJ2 TJ2 3 2 false (.array (.object "java/lang/Object")) := ⟨zfd_17_1, zty17, znm17, rfl, by decide +kernel, rfl⟩
theorem zfd_17_2 : zFd 17 2 RJ2 TJ2 3 0 := ⟨rfl, in_J2, by decide, rfl, by decide, by decide⟩
theorem zpd_17_2 : zPd 17 2 RJ2 TJ2 3 0 false .int := ⟨zfd_17_2, zty17, znm17, rfl, by decide +kernel, rfl⟩
theorem znd_17 : zNd 17 RJ2 TJ2 3 := ⟨rfl, in_J2, ⟨tyJ2, tyJ2_ok, by decide⟩, q380, q131, by decide, rfl⟩
theorem zc18 : zCl[18]? = some (RJ3, zTS, 2) := rfl
theorem zc19 : zCl[19]? = some (RJ15, TJ15, 1) := rfl
theorem zty19 : ∃ ty0 : Nat → FieldType, ∀ k, k < 1 → parseFieldDescriptor (TJ15 k).2.2.1 = some (ty0 k) := ⟨tyJ15, tyJ15_ok⟩
theorem znm19 : ∀ a, a < 1 → ∀ b, b < 1 → a ≠ b → (TJ15 a).2.1 ≠ (TJ15 b).2.1 := nmJ15
theorem zfd_19_0 : zFd 19 0 RJ15 TJ15 1 0 := ⟨rfl, in_J15, by decide, rfl, by decide, by decide⟩
theorem zpd_19_0 : zPd 19 0 RJ15 TJ15 1 0 true .int := ⟨zfd_19_0, zty19, znm19, rfl, by decide +kernel, rfl⟩
theorem znd_19 : zNd 19 RJ15 TJ15 1 := ⟨rfl, in_J15, ⟨tyJ15, tyJ15_ok, by decide⟩, q825, q155, by decide, rfl⟩
