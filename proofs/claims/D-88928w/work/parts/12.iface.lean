section
/-! an interface's own (default) method, called through the interface -/
def Sel (C : String) (x y : MethodName) (U : State) : Prop := ∃ c r m, U.vm.findClass C = some c ∧ U.methodNamed? x = some r ∧ U.methodNamed? y = some m ∧ selectMethod {} U.vm c r = .method m
theorem Sel.of {args : Array Value} {U : State} {C : String} {x y : MethodName} (h : (Cond.landsInDefault C x y).before args U = true) (hf : (Cond.interfaceMethod x.cls x.cls x.name x.desc).before args U = true) : Sel C x y U := by
  obtain ⟨cL, kL, r1, hcL, hkL, hiL, hfoundL, hn1⟩ := Cond.interfaceMethod_spec hf
  simp only [Cond.before, Cond.holds, Cond.value] at h
  cases hc : U.vm.findClass C with
  | none => simp [hc] at h
  | some c =>
  cases hm : U.methodNamed? y with
  | none => simp [hc, hfoundL, hm] at h
  | some m =>
  cases hrm : U.vm.method? r1 with
  | none => simp [hc, hfoundL, hm, hrm] at h
  | some rm =>
  simp only [hc, hfoundL, hm, hrm, Option.map_some, beq_iff_eq, Option.some.injEq] at h
  split at h
  · rename_i m' hsel
    simp only [Bool.and_eq_true, decide_eq_true_eq] at h
    obtain ⟨⟨⟨⟨e, -⟩, -⟩, -⟩, -⟩ := h
    exact ⟨c, r1, m, hc, hn1, hm, by rw [hsel, e]⟩
  · cases h
theorem Sel.moved {C : String} {x y : MethodName} {u U : State} (hvm : u.vm.Alike U.vm) (h : Sel C x y u) : Sel C x y U := by
  obtain ⟨c, r, m, h1, h2, h3, h4⟩ := h
  have e1 := State.methodNamed?_setVm (s := u) hvm (x := x)
  have e2 := State.methodNamed?_setVm (s := u) hvm (x := y)
  have f1 : U.methodNamed? x = (u.setVm U.vm).methodNamed? x := rfl
  have f2 : U.methodNamed? y = (u.setVm U.vm).methodNamed? y := rfl
  exact ⟨c, r, m, by rw [hvm.findClass]; exact h1, by rw [f1, e1]; exact h2, by rw [f2, e2]; exact h3, by rw [hvm.selectMethod]; exact h4⟩
section
variable {p : Program} {l : Launch} {e : Env} {R : Room} {s : State} {m : MethodId} {args : Array Value} {below : List Frame} {meth : Method} {c : Code} {H : Heap} {locs : List Loc} {cells slots mc ms : Nat} {Q : State → Prop}
variable {cc : ByteArray} {nL : Nat} {own : String} {ret : Option FieldType} {D : va_G} {d : Nat → ClassId} {E : State → Prop} {A : Nat → Prop} {st : CS} {pc : Nat} {ls : Array Slot} {rest : List Value} {o : Nat} {ad : Nat → Nat}
/-- the default method's body, 'return 1', run in its own frame: its class need not be called initialised -/
theorem x_ret1 {T : State} (X : Stand p l e R s m args below meth c T locs cells slots) (hexec : p.tables.exec = Jvm.exec) {mk : MethodId} {methM : Method} {cM : Code} (hm : T.vm.method? mk = some methM) (hc : methM.code = some cM) (hb : cM.code = cX6_counts) (hl : methM.locks = false) (hr : methM.sig.returnType = some .boolean) (hp : T.plainMethod mk)
    {g : JFrame} (hg : g.method = m) (hsize : g.locals.size = c.maxLocals) (hframes : 1 ≤ R.frames) (hlocals : 2 * g.monitorRoom + (g.stack.map fun v => v.category).sum + (cM.maxLocals + 11) ≤ R.locals) {ig : Instr} {len : Nat} (hdg : decode c.code g.pc = .ok (ig, len)) (acts : List Action) {as : Array Value} {target : State}
    (hrest : Steps p.tables e below (T.setTop { g with pc := g.pc + len, stack := .int 1 :: g.stack }) target) : Steps p.tables e below (doInvoke e (T.setTop g) acts mk as).1 target := by
  subst hg
  have h := X.here
  rw [doInvoke_enter h.top acts hm hc hl (X.notFull hsize hframes hlocals)]
  have hA := At.enter h (m := mk) (meth := methM) (code := cM) as hm hc hp
  have hf := frames_entered (g := g) h.top (.java (entryFrame mk as cM.maxLocals))
  generalize hU : (T.setTop g).pushFrame (.java (entryFrame mk as cM.maxLocals)) = U at hA hf
  have hmU : U.vm.method? mk = some methM := by rw [← hU]; exact hm
  have hcU : U.code? g.method = some c := by rw [← hU]; have := h.code; rw [State.code?_eq] at this ⊢; simpa [State.pushFrame, State.setFrames] using this
  have hd0 : decode cX6_counts 0 = .ok (.iconst 1, 1) := dX6_counts_0
  have hd1 : decode cX6_counts 1 = .ok (.ireturn, 1) := dX6_counts_1
  show Steps p.tables e below (U.setTop (entryFrame mk as cM.maxLocals)) target
  unfold entryFrame
  jvm_step hA [hA.top, hexec, hb, hd0]
  jvm_step hA [hA.top, hexec, hb, hd1, hmU, hr, narrow_b1]
  (try refine ⟨rfl, ?_⟩); (try refine ⟨rfl, ?_⟩)
  intro acts'
  rw [doReturn_leave (g := g) (meth := methM) (cg := c) (ig := ig) (len := len) acts' hf (by simpa using hmU) hl rfl rfl hcU hdg]
  rw [← hU, setFrames_entered h.top, State.setTop_setTop]
  simpa using hrest
theorem x_callIFD {T : State} (X : Stand p l e R s m args below meth c T locs cells slots) (hexec : p.tables.exec = Jvm.exec) {own C : String} {index count : Nat}
    (hown : s.vm.findClass own = some m.cls) (hlink : (Cond.methodLink own index yX6_counts).before args s = true) (hF : va_Fw C yX6_counts yX6_counts s) (hsel : Sel C yX6_counts yX6_counts s) (hinst : (Cond.instanceMethod yX6_counts).before args s = true) (hcode : (Cond.code yX6_counts cX6_counts 3 (some .boolean)).before args s = true)
    {b : Addr} {cellB : Cell} {kB : Class} (hcell : T.heap[b]? = some cellB) (hobj : cellB.vm.isStatics = false) (hcls : s.vm.findClass C = some cellB.cls) (hkB : s.vm.classes[cellB.cls]? = some kB)
    {g : JFrame} (hg : g.method = m) (hsize : g.locals.size = c.maxLocals) {v1 v2 : Value} {rest : List Value} (hframes : 1 ≤ R.frames) (hlocals : 2 * g.monitorRoom + (rest.map fun v => v.category).sum + 14 ≤ R.locals)
    (hstack : g.stack = v2 :: v1 :: .ref b :: rest) (hdg : decode c.code g.pc = .ok (.invokeinterface index count, 5)) :
    ∃ vm₁ : Vm, Stand p l e R s m args below meth c (T.setVm vm₁) locs cells slots ∧
      ∀ target, Steps p.tables e below ((T.setVm vm₁).setTop { g with pc := g.pc + 5, stack := .int 1 :: rest }) target → Steps p.tables e below (T.setTop g) target := by
  obtain ⟨hdecl, hface, hpub, hunh, hcast⟩ := hF
  obtain ⟨r0, r, hn, hrm, hstR, hsigR⟩ := Cond.declares_spec hdecl
  obtain ⟨cL, kL, r1, hcL, hkL, hiL, hfoundL, hn1⟩ := Cond.interfaceMethod_spec hface
  cases hn.symm.trans hn1
  have hr0cls : r0.cls = cL := Option.some.inj ((findClass_of_methodNamed hn).symm.trans hcL)
  obtain ⟨hnameR, hdescR⟩ := name_of_methodNamed hn hrm
  obtain ⟨mk, methM, hnamed, hmethM, -, habM⟩ := Cond.instanceMethod_spec hinst
  obtain ⟨c2, r2, m2, q1, q2, q3, q4⟩ := hsel
  cases hcls.symm.trans q1
  cases hn.symm.trans q2
  cases hnamed.symm.trans q3
  have hselP : selectMethod e.platform s.vm cellB.cls r0 = .method mk := by rw [Launch.admits_selectMethod X.admits]; exact q4
  have hpubM : hasFlag methM.accessFlags Acc.public_ = true := Cond.publicMethod_spec hnamed hmethM hpub
  have hway : ((cellB.cls :: s.vm.superclasses cellB.cls).any fun k => (declaredIn s.vm r.name r.desc k).any fun (_, z) => z.isPrivate || z.isStatic) = false := by
    rw [hnameR, hdescR]; exact Cond.unhidden_spec hcls hunh
  obtain ⟨c3, t3, w1, w2, w3⟩ := Cond.castable_spec hcast
  cases hcls.symm.trans w1
  cases hcL.symm.trans w2
  have hlen : ([v1, v2] : List Value).length = r.sig.parameters.length := by
    have h2 : (parseMethodDescriptor yX6_counts.desc).map (fun d => d.parameters.length) = some 2 := by decide +kernel
    rw [hsigR] at h2
    exact (Option.some.inj h2).symm
  obtain ⟨vm₁, X₁, hstep₁⟩ := X.invokeinterface hexec hown hlink hn hrm hstR (by rw [hr0cls]; exact hkL) hiL (show yX6_counts.cls ≠ "java/lang/invoke/MethodHandle" ∧ yX6_counts.cls ≠ "java/lang/invoke/VarHandle" by decide) (a := b) (cell := cellB) (kcell := kB) hcell
    (fun z h => by rw [h] at hobj; cases hobj) hkB (by rw [hr0cls]; exact w3) hselP hmethM hway hpubM habM (g := g) hg (argsL := [v1, v2]) (rest := rest) hlen hstack hdg
  obtain ⟨meth9, c9, k1, k2, k3, k4, k5, k6, -, -⟩ := Cond.code_spec hnamed hcode
  cases hmethM.symm.trans k1
  refine ⟨vm₁, X₁, fun target h => hstep₁ _ fun acts => ?_⟩
  refine x_ret1 X₁ hexec (mk := mk) (methM := methM) (cM := c9) (by rw [X₁.warmed.alike.method?]; exact hmethM) k2 k3 k6 k5 ?_ (g := { g with stack := rest }) hg hsize hframes (by rw [k4]; exact hlocals) hdg acts h
  exact State.plainMethod.of_name (fun k hk => by
    have hnm := X₁.named hnamed
    obtain ⟨kx, hkx, hnx⟩ := className_of_methodNamed hnm
    cases hk.symm.trans hkx
    rw [hnx]; decide)
end
/-- what the tables say of the lines' classes, beyond the words that ride -/
def EL (U : State) : Prop := va_Nw (.castable "HeirHunters$Claimed" "HeirHunters$Line") U ∧ va_Nw (.castable "HeirHunters$Adopted" "HeirHunters$Line") U ∧ va_Nw (.castable "HeirHunters$Proved" "HeirHunters$Line") U ∧ va_Nw (.castable "HeirHunters$Proved" "HeirHunters$Claimed") U
  ∧ va_Fw RX2 yX6_counts yX6_counts U ∧ va_Fw RX3 yX6_counts yX6_counts U ∧ va_Fw RX5 yX6_counts yX6_counts U ∧ va_Fw RX4 yX6_counts yX4_counts U
  ∧ Sel RX2 yX6_counts yX6_counts U ∧ Sel RX3 yX6_counts yX6_counts U ∧ Sel RX5 yX6_counts yX6_counts U
theorem EL.moved : Em EL := by
  intro u U h ⟨h1, h2, h3, h4, h5, h6, h7, h8, h9, h10, h11⟩
  have nw : ∀ {C T : String}, va_Nw (.castable C T) u → va_Nw (.castable C T) U := fun {C T} hZ => va_tabs rfl (rfl : (u.setVm U.vm).vm = U.vm) (by rw [Cond.castable_setVm h]; exact hZ)
  exact ⟨nw h1, nw h2, nw h3, nw h4, h5.moved (by decide) h, h6.moved (by decide) h, h7.moved (by decide) h, h8.moved (by decide) h, h9.moved h, h10.moved h, h11.moved h⟩
end
