section
/-! the words that do not ride, moved to a later state of the same run -/
section
variable {s U : State} {args args' : Array Value}
theorem ax_lays (hal : s.vm.Alike U.vm) (hst : ∀ (q : Nat) (cell : Cell), s.heap[q]? = some cell → cell.vm.isStatics = true → U.heap[q]? = some cell) {O f d : String} (h : (Cond.laysStatic O f d).before args s = true) : (Cond.laysStatic O f d).before args' U = true := by
  obtain ⟨c, k, i, fd, a, cell, hc, hi, hs, ha, hcell, hiss, hcls, hlt, hty⟩ := Cond.laysStatic_spec h
  obtain ⟨k', hi', hek⟩ := State.fieldFound?_setVm hal hi
  exact Cond.laysStatic_of (s := U) (by rw [hal.findClass]; exact hc) hi' hs (by rw [hek]; exact ha) (hst a cell hcell hiss) hiss hcls hlt (by rw [hek]; exact hty)
theorem ax_ref (hal : s.vm.Alike U.vm) (hst : ∀ (q : Nat) (cell : Cell), s.heap[q]? = some cell → cell.vm.isStatics = true → U.heap[q]? = some cell) {O f d : String} (hL : (Cond.laysStatic O f d).before args s = true) (h : (Cond.isRef (.static O f d)).before args s = true) : (Cond.isRef (.static O f d)).before args' U = true := by
  obtain ⟨c, k, i, fd, a, cell, hc, hi, hs, ha, hcell, hiss, hcls, hlt, hty⟩ := Cond.laysStatic_spec hL
  obtain ⟨k', hi', hek⟩ := State.fieldFound?_setVm hal hi
  obtain ⟨u, hu⟩ := Cond.staticRefV hi hs ha hcell hiss h
  have hi2 : U.fieldFound? O f d = some (c, k', i, fd) := hi'
  have he : (Term.static O f d).eval args' U none [] U = cell.slots[fd.slot]? := by
    simp [Term.eval, State.fieldNamed?, hi2, hs, show k'.statics = some a by rw [hek]; exact ha, hst a cell hcell hiss, hiss]
  simp only [Cond.before, Cond.holds, Cond.value, he, hu]
  obtain ⟨v, ok⟩ := u
  cases v <;> first | rfl | cases ok
theorem AX.moved (h : AX s) (hW : s.WarmedH U.vm) (hst : ∀ (q : Nat) (cell : Cell), s.heap[q]? = some cell → cell.vm.isStatics = true → U.heap[q]? = some cell) : AX U := by
  have hal := hW.alike
  refine ⟨fun w hw args => ?_, fun vm' hW' C hC K hK c t ks kt h1 h2 h3 h4 => h.2 vm' (State.WarmedH.trans hW hW') C hC K hK c t ks kt (by rw [← hal.findClass]; exact h1) (by rw [← hal.findClass]; exact h2) h3 h4⟩
  have h0 := h.1 w hw args
  have hL1 := h.1 _ (List.mem_of_getElem? (l := xw) (i := 0) rfl) args
  have hL2 := h.1 _ (List.mem_of_getElem? (l := xw) (i := 1) rfl) args
  have face : ∀ c : Cond, c.faceAtom = true → c.onTables = true → c.before args s = true → c.before args U = true := by
    intro c hc ho hh
    have h1 := Cond.faceAtom_setVm hal c hc hh
    cases c with
    | declares x => exact h1
    | castable a b => exact h1
    | _ => first | (simp [Cond.faceAtom] at hc; done) | exact h1
  simp only [xw, List.mem_cons, List.not_mem_nil, or_false] at hw
  rcases hw with rfl | rfl | rfl | rfl | rfl | rfl | rfl | rfl | rfl | rfl | rfl | rfl | rfl | rfl | rfl | rfl | rfl | rfl | rfl | rfl | rfl | rfl | rfl | rfl | rfl | rfl | rfl | rfl | rfl
  all_goals first
    | exact ax_lays hal hst h0
    | exact ax_ref hal hst hL1 h0
    | exact ax_ref hal hst hL2 h0
    | exact face _ rfl rfl h0
    | (simp only [Cond.before, Cond.holds, Cond.value, hal.findClass, hal.assignable] at h0 ⊢; exact h0)
end
end
