/-! ROWS 8: casts by class, a field of the class above (printed by gen/rows8.py) -/
set_option maxRecDepth 100000
def zCs (cs : List Nat) (nm : String) : Prop := ∀ c ∈ cs, ∃ q : vw_C, zCl[c]? = some q ∧ c < 100 ∧ (Cond.castable q.1 nm ∈ lw_tbl ∨ q.1 = nm)
theorem zcsS : zCs [6, 7, 11, 12, 13, 14, 15] "QuiverKin$Sum" := by
  intro c hc
  simp only [List.mem_cons, List.not_mem_nil, or_false] at hc
  rcases hc with e | e | e | e | e | e | e <;> subst e
  · exact ⟨_, rfl, by decide, Or.inl q980⟩
  · exact ⟨_, rfl, by decide, Or.inl q1031⟩
  · exact ⟨_, rfl, by decide, Or.inl q988⟩
  · exact ⟨_, rfl, by decide, Or.inl q1025⟩
  · exact ⟨_, rfl, by decide, Or.inl q972⟩
  · exact ⟨_, rfl, by decide, Or.inl q1037⟩
  · exact ⟨_, rfl, by decide, Or.inl q1017⟩
theorem zcsA : zCs [8, 9, 10] "QuiverKin$Asked" := by
  intro c hc
  simp only [List.mem_cons, List.not_mem_nil, or_false] at hc
  rcases hc with e | e | e <;> subst e
  · exact ⟨_, rfl, by decide, Or.inl q1046⟩
  · exact ⟨_, rfl, by decide, Or.inl q1009⟩
  · exact ⟨_, rfl, by decide, Or.inl q998⟩
theorem zcsD : zCs [16] "QuiverKin$Doing" := by
  intro c hc
  rw [List.mem_singleton.mp hc]
  exact ⟨_, rfl, by decide, Or.inr rfl⟩
theorem zcsI : zCs [19] "java/lang/Integer" := by
  intro c hc
  rw [List.mem_singleton.mp hc]
  exact ⟨_, rfl, by decide, Or.inr rfl⟩
section
variable {X : zCx} {cc : ByteArray} {nL pc fr lo : Nat} {own mn : String} {L : List (Nat × Value)} {st : List Value} {g : zGd} {m : zMm} {α : Type} {fin : α}
theorem gf_iU {index : Nat} {a : Option Nat} {K : Int32 → Option α} (q : Cond.fieldLink own index "java/util/ArrayList" "modCount" "I" ∈ lw_all) (d : decode cc pc = .ok (.getfield index, 3)) (h : (zgi g m 17 0 a).bind K = some fin) (kk : ∀ v, K v = some fin → zG X cc nL own mn fr lo (pc + 3) L (.int v :: st) g m) : zG X cc nL own mn fr lo pc L (va_rf a :: st) g m := by
  obtain ⟨a0, e, h1, h2⟩ := zop h
  exact ⟨(kk _ h2).1, fun hF H locs cells slots ls hR hL => (gf_i zfd_17_0 q (fun x h9 => u_same (hF.ts _ q397) x h9) d h kk).2 hF H locs cells slots ls hR hL⟩
theorem gp_iU {index : Nat} {a : Option Nat} {v : Int32} {K : zMm → Option α} (q : Cond.fieldLink own index "java/util/ArrayList" "modCount" "I" ∈ lw_all) (d : decode cc pc = .ok (.putfield index, 3)) (h : (zpi g m 17 0 a v).bind K = some fin) (kk : ∀ m', K m' = some fin → zG X cc nL own mn fr lo (pc + 3) L st g m') : zG X cc nL own mn fr lo pc L (.int v :: va_rf a :: st) g m := by
  obtain ⟨a0, e, h1, h2⟩ := zop h
  exact ⟨(kk _ h2).1, fun hF H locs cells slots ls hR hL => (gp_i zpd_17_0 q (fun x h9 => u_same (hF.ts _ q397) x h9) d h kk).2 hF H locs cells slots ls hR hL⟩
end
