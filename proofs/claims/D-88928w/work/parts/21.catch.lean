section
/-! the machine's exception is caught in the method that raised it: the walk goes on at the handler -/
/-- what the search gives, the tables noted on the way -/
def FindsTo (e : Env) (s : State) (f : JFrame) (a : Addr) (pc : Nat) (vm' : Vm) : Prop :=
  ∀ (Q : Handler → Pre) (E : CtlPost) (d : Bool) (acts : List Action), wp (findHandler f a) Q E e d acts s ↔ Q (.found pc) d acts (s.setVm vm')
section
variable {Q : Handler → Pre} {E : CtlPost} {e : Env} {d : Bool} {acts : List Action} {s : State} {f : JFrame} {a : Addr}
theorem x_go_cold {x : ExceptionTableEntry} {t : List ExceptionTableEntry} {c : ClassId} {cell : Cell} {vm' : Vm} (hx : covers x f.pc = true) (h0 : x.catchType ≠ 0)
    (hg : (Jvm.resolveClass f.method.cls x.catchType).Gives e.toSetting s.vm (.ok c) vm') (hsz : vm'.classes.size ≤ s.vm.classes.size) (hcell : s.heap[a]? = some cell) (hobj : ∀ k, cell.vm ≠ .statics k)
    (hk : ∃ k, vm'.classes[cell.cls]? = some k) (hc : ∃ k, vm'.classes[c]? = some k) :
    wp (findHandler.go f a (x :: t)) Q E e d acts s ↔
      if vm'.assignable cell.cls c = true then Q (.found x.handlerPc) d acts (s.setVm vm') else wp (findHandler.go f a t) Q E e d acts (s.setVm vm') := by
  simp only [covers] at hx
  obtain ⟨ha, ht⟩ := hg.op (op := VmOp.resolveClass f.method.cls x.catchType) rfl
  cases hfit : vm'.assignable cell.cls c <;>
    simp [findHandler.go, hx, h0, ha, ht, hsz, hcell, hobj, hk, hc, hfit, VmOp.dirties, VmOp.acts]
theorem x_stepCatch {r : List Frame} {pc : Nat} {vm' : Vm} (hfind : FindsTo e s f a pc vm') :
    (stepThrowing e s a (.java f :: r)).Is ((s.setVm vm').setFrames (.java { f with pc := pc, stack := [.ref a] } :: r)) [] := by
  simp only [stepThrowing, searchFrame, vmDo]
  generalize hr : Sem.go _ e false [] s = res
  obtain ⟨as, rfl, ha⟩ := Sem.eq_ok_of hr (a := Handler.found pc) (s' := s.setVm vm') (acts' := []) (by simp [hfind _ _ _ _])
  exact ⟨rfl, ha⟩
theorem x_caughtCold {tb : Tables} {target : State} {g : JFrame} {c : Code} {below : List Frame} {vm' : Vm} (h : At s g.method c below) {pc : Nat} (hfind : FindsTo e ((s.setTop g).pushFrame (.throwing a)) g a pc vm')
    (hrest : Steps tb e below ((s.setVm vm').setTop { g with pc := pc, stack := [.ref a] }) target) :
    Steps tb e below ((s.setTop g).pushFrame (.throwing a)) target := by
  obtain ⟨hgo, hw⟩ := h.throwing a
  refine Steps.head hgo hw ?_
  rw [stepThread_throwing (frames_entered h.top _), (x_stepCatch (s := (s.setTop g).pushFrame (.throwing a)) hfind).1]
  obtain ⟨g₀, hg⟩ := Option.isSome_iff_exists.mp h.top
  obtain ⟨r, hr⟩ := State.topJava?_eq_some.mp hg
  have hr' : (s.setVm vm').frames = .java g₀ :: r := hr
  have e1 : (((s.setTop g).pushFrame (.throwing a)).setVm vm').setFrames (.java { g with pc := pc, stack := [.ref a] } :: s.frames.tail) = (s.setVm vm').setFrames (.java { g with pc := pc, stack := [.ref a] } :: s.frames.tail) := by
    rw [State.pushFrame, State.setTop_of_frames _ hr, State.setFrames_setFrames]
    show ((s.setVm vm').setFrames _).setFrames _ = _
    rw [State.setFrames_setFrames]
  rw [e1, hr]
  rw [State.setTop_of_frames _ hr'] at hrest
  exact hrest
end
section
variable {p : Program} {l : Launch} {e : Env} {R : Room} {s : State} {m : MethodId} {args : Array Value} {below : List Frame} {meth : Method} {c : Code} {H : Heap} {locs : List Loc} {cells slots : Nat} {Q : State → Prop}
theorem x_caught (hexec : p.tables.exec = Jvm.exec) (htr : e.platform.stackTraces = false) {cls : String} {names : List String} {text : String}
    (hcls : Bundle.fit cls = true) (hnames : ∀ n ∈ names, Bundle.fit n = true) (hsoe : (cls == "java/lang/StackOverflowError") = false) (hoom : (cls == "java/lang/OutOfMemoryError") = false)
    (h : ∀ a ∈ Bundle.messageArmAtoms cls names, a.before args s = true) (hlocs : ∀ x ∈ locs, ∀ cell, s.heap[x.base]? = some cell → cell.vm.isStatics = false)
    (htext : (text == notModelled) = false) {n : Nat} (hsize : (stringBytes (stringToUtf16 text)).size + 10 ≤ n) (hn9 : n ≤ 65536)
    {g g0 : JFrame} (hg : g.method = m) (hls : g.locals.size = c.maxLocals)
    (hRframes : names.length + 4 < R.frames) (hRlocals : 2 * g.monitorRoom + (g.stack.map fun v => v.category).sum + 10240 ≤ R.locals) (hshort : 13 * names.length + 55 ≤ 10240)
    (hRcells : cells + 3 ≤ R.cells) (hRslots : slots + n ≤ R.slots) {hpc : Nat}
    (raise : ∀ T : State, T.heap = H → Stand p l e R s m args below meth c T locs cells slots → ∀ target, Steps p.tables e below ((T.setTop g).pushFrame (.throwNew cls (some text) none)) target → Steps p.tables e below (T.setTop g0) target)
    (hfind : ∀ (U : State) (a : Addr) (ce : Cell), s.WarmedH U.vm → U.heap[a]? = some ce → ce.vm = .none → s.vm.findClass cls = some ce.cls → (∃ kX : Class, s.vm.classes[ce.cls]? = some kX) → s.vm.assignable ce.cls ce.cls = true → ∃ vm' : Vm, s.WarmedH vm' ∧ FindsTo e ((U.setTop g).pushFrame (.throwing a)) g a hpc vm')
    (k : ∀ (H1 : Heap) (locs1 : List Loc) (a : Addr), H1.size = H.size + 3 → (∀ q : Nat, q < H.size → H1[q]? = H[q]?) → (∀ y ∈ locs1, y ∈ locs ∨ y.base = H.size + 2) →
      W p l e R s m args below meth c H1 locs1 (cells + 3) (slots + n) Q { g with pc := hpc, stack := [.ref a] }) :
    W p l e R s m args below meth c H locs cells slots Q g0 := by
  intro T hT X
  have b1 : componentBytes .byte = 1 := rfl
  have hlimit : ¬ n > e.platform.arrayLengthLimit := by rw [X.admits.platform]; show ¬ n > 2147483645; omega
  have hheap : ¬ n > e.platform.maxHeapBytes := by rw [X.admits.platform]; show ¬ n > 536870912; omega
  obtain ⟨U, locs', n1, ce, hn1, X1, hl1, hs1, ho1, hc1, hf1, hv1, ha1, hk1, st⟩ := x_thrown X hexec htr hcls hnames hsoe hoom h hlocs htext (by omega) (by rw [b1]; omega) hg hls hRframes hRlocals hshort hRcells (by omega)
  have X2 : Stand p l e R s m args below meth c U locs' (cells + 3) (slots + n) :=
    ⟨X1.admits, X1.cas, X1.clock, X1.frames, X1.room, X1.hears, X1.method, X1.code, X1.here, X1.tail, X1.warmed, X1.limits, X1.bytes, X1.same.mono (Nat.le_refl _) (by omega)⟩
  rw [hT] at hs1 ho1
  obtain ⟨vm', hW', hF⟩ := hfind U _ ce X1.warmed hc1 hv1 hf1 hk1 ha1
  obtain ⟨t, a1, a2⟩ := k U.heap locs' (T.heap.size + 2) hs1 ho1 (fun y hy => by have := hl1 y hy; rw [hT] at this; exact this) (U.setVm vm') rfl (X2.noted hW')
  exact ⟨t, raise T hT X t (st t (x_caughtCold (by rw [hg]; exact X2.here) hF a1)), a2⟩
end
end
