section
/-! checkcast of an object that is not of the class -/
section
variable {p : Program} {l : Launch} {e : Env} {R : Room} {s : State} {m : MethodId} {args : Array Value} {below : List Frame} {meth : Method} {c : Code} {locs : List Loc} {cells slots : Nat}
theorem x_castNo {T : State} (X : Stand p l e R s m args below meth c T locs cells slots) (hexec : p.tables.exec = Jvm.exec)
    {own name : String} {index : Nat} (hown : s.vm.findClass own = some m.cls) (hlink : (Cond.classLink own index name).before args s = true)
    {a : Addr} {cell : Cell} {cT : ClassId} {ks : Class} (hcell : T.heap[a]? = some cell) (hobj : cell.vm.isStatics = false) (hcT : s.vm.findClass name = some cT) (hno : s.vm.assignable cell.cls cT = false) (hks : s.vm.classes[cell.cls]? = some ks)
    {g : JFrame} (hg : g.method = m) {rest : List Value} (hstack : g.stack = .ref a :: rest) (hdg : decode c.code g.pc = .ok (.checkcast index, 3)) :
    ∃ (vm' : Vm) (ks' kt' : Class), Stand p l e R s m args below meth c (T.setVm vm') locs cells slots ∧ s.WarmedH vm' ∧ vm'.classes[cell.cls]? = some ks' ∧ vm'.classes[cT]? = some kt' ∧
      ∀ target, Steps p.tables e below (((T.setVm vm').setTop g).pushFrame (.throwNew "java/lang/ClassCastException" (some (checkcast.message vm' ks' kt')) none)) target → Steps p.tables e below (T.setTop g) target := by
  have hpl : e.platform.magicAccessors = ({} : Platform).magicAccessors := by rw [X.admits.platform]
  obtain ⟨c', hc', hcl⟩ := Cond.classLink_spec hown hlink e.platform hpl
  cases hcT.symm.trans hc'
  obtain ⟨dk, _, _, kt, hd, _, _, _, _, hkt, _, hopen⟩ := hcl.here
  have hcl₀ := X.warmed.classLinks hcl
  have hW' : s.WarmedH (T.vm.noted m.cls index (.cls cT)) := X.warmed.noted hd hopen (State.rightAt_cls hcl)
  obtain ⟨ks', hks', -⟩ := hW'.alike.2.2 _ _ hks
  obtain ⟨kt', hkt', -⟩ := hW'.alike.2.2 _ _ hkt
  refine ⟨_, ks', kt', X.noted hW', hW', hks', hkt', fun target hrest => ?_⟩
  subst hg
  jvm_step X.here [hexec, hdg, checkcast.wp_cold (e := e) (s := T) (f := g) X.here.top hstack (resolveClass_links e.toSetting hcl₀) hcl₀.ready,
    checkcast.wp_ready (e := e) (s := T.setVm (T.vm.noted g.method.cls index (.cls cT))) (f := g) X.here.top hcl₀.ready hstack]
  refine ⟨cell, hcell, VmData.noStatics_of hobj, ks', hks', kt', hkt', ?_⟩
  have h1 : (T.vm.noted g.method.cls index (Resolved.cls cT)).assignable cell.cls cT = false := by rw [hW'.alike.assignable]; exact hno
  simp only [h1, Bool.false_eq_true, if_false]
  exact hrest
end
section
variable {p : Program} {l : Launch} {e : Env} {R : Room} {s : State} {m : MethodId} {args : Array Value} {below : List Frame} {meth : Method} {c : Code} {H : Heap} {locs : List Loc} {cells slots : Nat} {Q : State → Prop}
variable {cc : ByteArray} {nL : Nat} {own : String} {ret : Option FieldType} {D : va_G} {d : Nat → ClassId} {E : State → Prop} {A : Nat → Prop} {wf : CS → va_W} {st : CS} {pc : Nat} {ls : Array Slot} {rest : List Value} {mc ms : Nat}
/-- as x_caughtC, where the tables are noted and the text is told only at the throw -/
theorem x_caughtC2 (F : Fx p s m args meth c cc nL own ret D d E A) (C : Cx D wf A s st H locs) (hN : NS A s) (htr : e.platform.stackTraces = false) {hh : List (Nat × Nat × Nat × Nat)} (hT : HT c hh) {cls : String} {names : List String}
    (hcls : Bundle.fit cls = true) (hnames : ∀ n ∈ names, Bundle.fit n = true) (hsoe : (cls == "java/lang/StackOverflowError") = false) (hoom : (cls == "java/lang/OutOfMemoryError") = false)
    (h : ∀ a ∈ Bundle.messageArmAtoms cls names, a.before args s = true) {n : Nat} (hn9 : n ≤ 65536) (hls : ls.size = nL)
    (hRframes : names.length + 4 < R.frames) (hRlocals : (rest.map fun v => v.category).sum + 10240 ≤ R.locals) (hshort : 13 * names.length + 55 ≤ 10240)
    (hRcells : cells + 3 ≤ R.cells) (hRslots : slots + n ≤ R.slots) {hpc : Nat} {g0 : JFrame}
    (raise : ∀ T : State, T.heap = H → Stand p l e R s m args below meth c T locs cells slots → ∃ (vm' : Vm) (text : String), (text == notModelled) = false ∧ (stringBytes (stringToUtf16 text)).size + 10 ≤ n ∧ Stand p l e R s m args below meth c (T.setVm vm') locs cells slots ∧
      ∀ target, Steps p.tables e below (((T.setVm vm').setTop (F0 m pc ls rest)).pushFrame (.throwNew cls (some text) none)) target → Steps p.tables e below (T.setTop g0) target)
    (hfind : e.platform.magicAccessors = ({} : Platform).magicAccessors → ∀ (a : Addr) (ce : Cell), ce.vm = .none → s.vm.findClass cls = some ce.cls → (∃ kX : Class, s.vm.classes[ce.cls]? = some kX) → FT s e (F0 m pc ls rest) a ce hh hpc)
    (k : ∀ (H1 : Heap) (locs1 : List Loc) (a : Addr), Cx D wf A s st H1 locs1 → W p l e R s m args below meth c H1 locs1 (cells + 3) (slots + n) Q (F0 m hpc ls [.ref a])) :
    W p l e R s m args below meth c H locs cells slots Q g0 := by
  intro T hT0 X
  have hpl : e.platform.magicAccessors = ({} : Platform).magicAccessors := by rw [X.admits.platform]
  have hml := F.2.2.2.1
  have b1 : componentBytes .byte = 1 := rfl
  have hlimit : ¬ n > e.platform.arrayLengthLimit := by rw [X.admits.platform]; show ¬ n > 2147483645; omega
  have hheap : ¬ n > e.platform.maxHeapBytes := by rw [X.admits.platform]; show ¬ n > 536870912; omega
  obtain ⟨vm1, text, ht1, ht2, X1, st1⟩ := raise T hT0 X
  have e1 : (T.setVm vm1).heap = H := hT0
  obtain ⟨U, locs', n1, ce, hn1, X2, hl1, hs1, ho1, hc1, hf1, hv1, ha1, hk1, stp⟩ := x_thrown (g := F0 m pc ls rest) X1 F.1 htr hcls hnames hsoe hoom h (Cx.ns hN C) ht1 (by omega) (by rw [b1]; omega) rfl (hls.trans hml.symm) hRframes (by simpa [JFrame.monitorRoom] using hRlocals) hshort hRcells (by omega)
  have X3 : Stand p l e R s m args below meth c U locs' (cells + 3) (slots + n) :=
    ⟨X2.admits, X2.cas, X2.clock, X2.frames, X2.room, X2.hears, X2.method, X2.code, X2.here, X2.tail, X2.warmed, X2.limits, X2.bytes, X2.same.mono (Nat.le_refl _) (by omega)⟩
  rw [e1] at hs1 ho1 hl1 hc1 stp
  obtain ⟨vm', q1, q2⟩ := hfind hpl (H.size + 2) ce hv1 hf1 hk1 c.exceptionTable.toList hT ((U.setTop (F0 m pc ls rest)).pushFrame (.throwing (H.size + 2))) (by rw [Stand.throwing_vm]; exact X2.warmed) (by rw [Stand.throwing_heap]; exact hc1)
  have hF : FindsTo e ((U.setTop (F0 m pc ls rest)).pushFrame (.throwing (H.size + 2))) (F0 m pc ls rest) (H.size + 2) hpc vm' := fun Q E d acts => by
    rw [W.findHandler_eq (meth := meth) (code := c) (by rw [Stand.throwing_vm, X2.warmed.alike.method?]; exact X.method) X.code]
    exact q2 Q E d acts
  obtain ⟨t, a1, a2⟩ := k U.heap locs' (H.size + 2) (Cx.grown F C (by omega) ho1 (fun y hy => (hl1 y hy).imp id (fun h => by rw [h]; omega))) (U.setVm vm') rfl (X3.noted q1)
  exact ⟨t, st1 t (stp t (x_caughtCold (by exact X2.here) hF a1)), a2⟩
end
section
variable {p : Program} {l : Launch} {e : Env} {R : Room} {s : State} {m : MethodId} {args : Array Value} {below : List Frame} {meth : Method} {c : Code} {H : Heap} {locs : List Loc} {cells slots : Nat} {Q : State → Prop}
variable {cc : ByteArray} {nL : Nat} {own : String} {ret : Option FieldType} {D : va_G} {d : Nat → ClassId} {E : State → Prop} {A : Nat → Prop} {st : CS} {pc : Nat} {ls : Array Slot} {rest : List Value} {mc ms : Nat} {o : Nat} {ad : Nat → Nat}
theorem x0_castR (F : Fx p s m args meth c cc nL own ret D d E A) (C : Cx D (wX o ad d) A s st H locs) (hBM : BM s) {a ci : Nat} {fs : List Value} {q : vw_C} (ha : a ∈ sP st) (hp : pE o d (sE st a) = .inr (ci, fs)) (hc : kcl[ci]? = some q) (hq : q.1 ∈ lcl) {nm : String} (hnm : nm ∈ lcl) {index : Nat}
    (hlink : Cond.classLink own index nm ∈ lw_all) (hno : (Cond.not (.castable q.1 nm)).before #[] s = true) (hdg : decode cc pc = .ok (.checkcast index, 3)) (T : State) (hT : T.heap = H) (X : Stand p l e R s m args below meth c T locs cells slots) :
    ∃ (vm' : Vm) (text : String), (text == notModelled) = false ∧ (stringBytes (stringToUtf16 text)).size + 10 ≤ 1024 ∧ Stand p l e R s m args below meth c (T.setVm vm') locs cells slots ∧
      ∀ target, Steps p.tables e below (((T.setVm vm').setTop (F0 m pc ls (.ref a :: rest))).pushFrame (.throwNew "java/lang/ClassCastException" (some text) none)) target → Steps p.tables e below (T.setTop (F0 m pc ls (.ref a :: rest))) target := by
  obtain ⟨cell, h1, h2, h3⟩ := xP_recv F C ha hp hc
  obtain ⟨cK, k1, k2⟩ := x_ncast h3 hno
  obtain ⟨f1, kk, f2, -⟩ := xP_class F hc
  have e9 : D.1 ci = cell.cls := Option.some.inj (f1.symm.trans h3)
  rw [e9] at f2
  obtain ⟨hx, hb, hr, hml, hown, hts, hlk, hA, hK, hE⟩ := F
  obtain ⟨vm', ks', kt', X', hW', g1, g2, stp⟩ := x_castNo X hx hown (hts _ hlink) (by rw [hT]; exact h1) h2 k1 k2 f2 (g := F0 m pc ls (.ref a :: rest)) rfl rfl (by rw [hb]; exact hdg)
  obtain ⟨t1, t2⟩ := hBM vm' hW' q.1 hq nm hnm cell.cls cK ks' kt' h3 k1 g1 g2
  exact ⟨vm', _, t1, by omega, X', stp⟩
end
end
