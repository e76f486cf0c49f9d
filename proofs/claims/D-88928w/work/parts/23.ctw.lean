section
/-! contracts of methods with handlers -/
/-- the code's table of handlers -/
def HT (c : Code) (hh : List (Nat × Nat × Nat × Nat)) : Prop := c.exceptionTable.toList.map (fun h => (h.startPc, h.endPc, h.handlerPc, h.catchType)) = hh
/-- no cell that may be written is a class's statics -/
def NS (A : Nat → Prop) (s : State) : Prop := ∀ q : Nat, A q → ∀ cell : Cell, s.heap[q]? = some cell → cell.vm.isStatics = false
/-- what a body with handlers knows beside -/
def Xh (A : Nat → Prop) (s : State) (e : Env) (c : Code) (hh : List (Nat × Nat × Nat × Nat)) : Prop := AX s ∧ NS A s ∧ e.platform.stackTraces = false ∧ HT c hh
def CtIW (l : Launch) (y : MethodName) (ws : List Cond) (rm : Room) (D : va_G) (d : Nat → ClassId) (E : State → Prop) (wf : CS → va_W) (mc ms : Nat) (As : List Value) (st : CS) (post : Int32 → CS → Prop) : Prop :=
  ∀ sz : Nat, Met l y ws rm (va_Pc As (fun U => PX D d E (wf st) sz U ∧ AX U)) (va_Qi post (BX D d E wf (va_A (wf st) sz)) (va_A (wf st) sz)) mc ms (va_A (wf st) sz)
theorem va_P.ns {D : va_G} {cl : List vw_C} {w : va_W} {s : State} (h : va_P D cl w s.heap) : NS (va_A w s.heap.size) s := by
  intro q hq cell hc
  rcases hq with ⟨k, e, hk⟩ | hq
  · have := h k _ hk
    rcases e with a | o
    · have h1 : s.heap[q]? = some (vp_cell a.1 a.2) := this
      rw [h1] at hc
      cases hc
      obtain ⟨c1, n1, f⟩ := a
      rcases f with f | f | f | f | f <;> rfl
    · obtain ⟨r, -, c2, g1, -, g3, -⟩ := this
      have h1 : s.heap[q]? = some c2 := g1
      rw [h1] at hc
      cases hc
      rw [g3]; rfl
  · have := (Array.getElem?_eq_some_iff.mp hc).1
    omega
section
variable {l : Launch} {y : MethodName} {rm : Room} {D : va_G} {d : Nat → ClassId} {E : State → Prop} {wf : CS → va_W} {mc ms : Nat} {As : List Value} {st : CS} {cc : ByteArray} {nL : Nat}
theorem CtIW.of {own : String} {ret : Option FieldType} {hh : List (Nat × Nat × Nat × Nat)} {post : Int32 → CS → Prop} (htr : ∀ e : Env, l.admits e → e.platform.stackTraces = false) (hE : Em E) (hy : plainName y.cls = true) (hown : y.cls = own) (hn : (lg_sl As).length ≤ nL)
    (body : ∀ (p : Program) (e : Env) (s : State) (m : MethodId) (below : List Frame) (meth : Method) (c : Code) (A : Nat → Prop) (ls : Array Slot), Fx p s m As.toArray meth c cc nL own ret D d E A → Cx D wf A s st s.heap [] → AX s → NS A s → e.platform.stackTraces = false → HT c hh → lv_has ls nL (lv_args 0 As) →
      W p l e (headSpec (wsW_ y cc nL ret hh) rm).room s m As.toArray below meth c s.heap [] 0 0 (QI below D d E wf A As.toArray s mc ms post) (F0 m 0 ls [])) :
    CtIW l y (wsW_ y cc nL ret hh) rm D d E wf mc ms As st post := by
  intro sz
  refine va_MetW (cc := cc) (maxL := nL) (ret := ret) (hh := hh) hy rfl ?_
  intro p e s m args below meth c s₁ B hml hv
  obtain ⟨rfl, ⟨hsz, hP, hK, hD0⟩, hAX⟩ := hv
  subst hsz
  have hts := atoms_spec (ws := wsW_ y cc nL ret hh) B.pre
  obtain ⟨m9, meth9, c9, hn9, h1, h2, -, -, h5, -, -, -⟩ := Cond.codeWith_spec (hts _ List.mem_cons_self)
  have hT : HT c hh := by
    cases B.named.symm.trans hn9
    cases B.method.symm.trans h1
    cases (Stand.of_body B).code.symm.trans h2
    exact h5
  have hl := lv_entry As (n := nL) hn
  rw [lg_entry_eq]
  exact body p e s m below meth c _ _ ⟨B.exec, B.bytes, B.returns, hml, by rw [← hown]; exact findClass_of_methodNamed B.named, fun w h => hts w (List.mem_cons_of_mem _ h), B.notSynchronized, fun q h => Or.inr h, hK, hE⟩ ⟨hP, hD0.self, va_S.rf⟩ hAX hP.ns (htr e B.admits) hT hl
end
section
variable {p : Program} {l : Launch} {e : Env} {R : Room} {s : State} {m : MethodId} {args : Array Value} {below : List Frame} {meth : Method} {c : Code} {H : Heap} {locs : List Loc} {cells slots : Nat} {Q : State → Prop}
variable {cc : ByteArray} {nL : Nat} {own : String} {ret : Option FieldType} {D : va_G} {d : Nat → ClassId} {E : State → Prop} {A : Nat → Prop} {wf : CS → va_W} {st : CS} {pc : Nat} {ls : Array Slot} {rest : List Value} {mc ms : Nat}
/-- the world over a heap that has only grown -/
theorem Cx.grown (F : Fx p s m args meth c cc nL own ret D d E A) (C : Cx D wf A s st H locs) {H1 : Heap} {locs1 : List Loc} (hz : H.size ≤ H1.size) (ho : ∀ q : Nat, q < H.size → H1[q]? = H[q]?) (hl : ∀ y ∈ locs1, y ∈ locs ∨ H.size ≤ y.base) : Cx D wf A s st H1 locs1 := by
  obtain ⟨hx, hb, hr, hml, hown, hts, hlk, hA, hK, hE⟩ := F
  obtain ⟨hP, hD, hS⟩ := C
  refine ⟨fun k q hk => ?_, hD, Nat.le_trans hS.1 hz, fun q h1 h2 => ?_, fun y hy => ?_⟩
  · have h1 := hP k q hk
    obtain ⟨a, e0⟩ := q
    rcases e0 with a0 | o
    · have h2 : H[a]? = some (vp_cell a0.1 a0.2) := h1
      show H1[a]? = some (vp_cell a0.1 a0.2)
      rw [ho a (Array.getElem?_eq_some_iff.mp h2).1]; exact h2
    · obtain ⟨r, g0, c2, g1, g⟩ := h1
      have h2 : H[a]? = some c2 := g1
      exact ⟨r, g0, c2, by show H1[a]? = some c2; rw [ho a (Array.getElem?_eq_some_iff.mp h2).1]; exact h2, g⟩
  · rw [ho q (Nat.lt_of_lt_of_le h1 hS.1)]; exact hS.2.1 q h1 h2
  · rcases hl y hy with h | h
    · exact hS.2.2 y h
    · exact hA _ (Nat.le_trans hS.1 h)
/-- no written cell is a class's statics -/
theorem Cx.ns (hN : NS A s) (C : Cx D wf A s st H locs) : ∀ x ∈ locs, ∀ cell, s.heap[x.base]? = some cell → cell.vm.isStatics = false := fun x hx cell hc => hN x.base (C.2.2.2.2 x hx) cell hc
end
/-- the search over rows of the table ends at pc, from any tables warmed from s -/
def FT (s : State) (e : Env) (f : JFrame) (a : Addr) (ce : Cell) (hh : List (Nat × Nat × Nat × Nat)) (pc : Nat) : Prop :=
  ∀ es : List ExceptionTableEntry, es.map (fun h => (h.startPc, h.endPc, h.handlerPc, h.catchType)) = hh → ∀ S : State, s.WarmedH S.vm → S.heap[a]? = some ce →
    ∃ vm' : Vm, s.WarmedH vm' ∧ ∀ (Q : Handler → Pre) (E : CtlPost) (d : Bool) (acts : List Action), wp (findHandler.go f a es) Q E e d acts S ↔ Q (.found pc) d acts (S.setVm vm')
section
variable {s : State} {e : Env} {f : JFrame} {a : Addr} {ce : Cell} {t : List (Nat × Nat × Nat × Nat)} {pc n0 n1 hp ct : Nat} {args : Array Value} {own K cls : String}
theorem ft_skip (hc : ¬ (n0 ≤ f.pc ∧ f.pc < n1)) (h : FT s e f a ce t pc) : FT s e f a ce ((n0, n1, hp, ct) :: t) pc := by
  intro es hes S hW hS
  cases es with
  | nil => cases hes
  | cons x es =>
    simp only [List.map_cons, List.cons.injEq, Prod.mk.injEq] at hes
    obtain ⟨⟨rfl, rfl, rfl, rfl⟩, h2⟩ := hes
    obtain ⟨vm', q1, q2⟩ := h es h2 S hW hS
    refine ⟨vm', q1, fun Q E d acts => ?_⟩
    rw [W.findHandler_go_skip (by simp only [covers]; simpa using hc)]
    exact q2 Q E d acts
/-- one covering row, its class resolved now -/
theorem ft_row (hpl : e.platform.magicAccessors = ({} : Platform).magicAccessors) (hc : n0 ≤ f.pc ∧ f.pc < n1) (h0 : ct ≠ 0) (hown : s.vm.findClass own = some f.method.cls) (hlink : (Cond.classLink own ct K).before args s = true) {cK : ClassId} (hK : s.vm.findClass K = some cK)
    (hv : ce.vm = .none) (hk : ∃ k : Class, s.vm.classes[ce.cls]? = some k) {x : ExceptionTableEntry} (hx : x.startPc = n0 ∧ x.endPc = n1 ∧ x.handlerPc = hp ∧ x.catchType = ct) {S : State} (hW : s.WarmedH S.vm) (hS : S.heap[a]? = some ce) :
    ∃ vm' : Vm, s.WarmedH vm' ∧ ∀ (es : List ExceptionTableEntry) (Q : Handler → Pre) (E : CtlPost) (d : Bool) (acts : List Action), wp (findHandler.go f a (x :: es)) Q E e d acts S ↔ if s.vm.assignable ce.cls cK = true then Q (.found hp) d acts (S.setVm vm') else wp (findHandler.go f a es) Q E e d acts (S.setVm vm') := by
  obtain ⟨rfl, rfl, rfl, rfl⟩ := hx
  obtain ⟨c', hc', hcl⟩ := Cond.classLink_spec hown hlink e.platform hpl
  cases hK.symm.trans hc'
  obtain ⟨dk, _, _, kt, hd, _, _, _, _, hkt, _, hopen⟩ := hcl.here
  obtain ⟨ks, hks⟩ := hk
  have hcl₀ := hW.classLinks hcl
  have hW' : s.WarmedH (S.vm.noted f.method.cls x.catchType (.cls cK)) := hW.noted hd hopen (State.rightAt_cls hcl)
  obtain ⟨ks', hks', -⟩ := hW'.alike.2.2 _ _ hks
  obtain ⟨kt', hkt', -⟩ := hW'.alike.2.2 _ _ hkt
  refine ⟨_, hW', fun es Q E d acts => ?_⟩
  rw [x_go_cold (by simp only [covers]; simpa using hc) h0 (resolveClass_links e.toSetting hcl₀) (by rw [Vm.size_note]; exact Nat.le_refl _) hS (fun k h => by rw [hv] at h; cases h) ⟨ks', hks'⟩ ⟨kt', hkt'⟩, hW'.alike.assignable]
theorem ft_hit (hpl : e.platform.magicAccessors = ({} : Platform).magicAccessors) (hc : n0 ≤ f.pc ∧ f.pc < n1) (h0 : ct ≠ 0) (hown : s.vm.findClass own = some f.method.cls) (hlink : (Cond.classLink own ct K).before args s = true) (hcast : (Cond.castable cls K).before args s = true)
    (hf : s.vm.findClass cls = some ce.cls) (hv : ce.vm = .none) (hk : ∃ k : Class, s.vm.classes[ce.cls]? = some k) : FT s e f a ce ((n0, n1, hp, ct) :: t) hp := by
  intro es hes S hW hS
  cases es with
  | nil => cases hes
  | cons x es =>
    simp only [List.map_cons, List.cons.injEq, Prod.mk.injEq] at hes
    obtain ⟨c3, cK, w1, w2, w3⟩ := Cond.castable_spec hcast
    cases hf.symm.trans w1
    obtain ⟨vm', q1, q2⟩ := ft_row hpl hc h0 hown hlink w2 hv hk hes.1 hW hS
    refine ⟨vm', q1, fun Q E d acts => ?_⟩
    rw [q2, if_pos w3]
theorem ft_pass (hpl : e.platform.magicAccessors = ({} : Platform).magicAccessors) (hc : n0 ≤ f.pc ∧ f.pc < n1) (h0 : ct ≠ 0) (hown : s.vm.findClass own = some f.method.cls) (hlink : (Cond.classLink own ct K).before args s = true) (hcast : ∃ cK : ClassId, s.vm.findClass K = some cK ∧ s.vm.assignable ce.cls cK = false)
    (hv : ce.vm = .none) (hk : ∃ k : Class, s.vm.classes[ce.cls]? = some k) (h : FT s e f a ce t pc) : FT s e f a ce ((n0, n1, hp, ct) :: t) pc := by
  intro es hes S hW hS
  cases es with
  | nil => cases hes
  | cons x es =>
    simp only [List.map_cons, List.cons.injEq, Prod.mk.injEq] at hes
    obtain ⟨cK, w2, w3⟩ := hcast
    obtain ⟨vm', q1, q2⟩ := ft_row hpl hc h0 hown hlink w2 hv hk hes.1 hW hS
    obtain ⟨vm2, q3, q4⟩ := h es hes.2 (S.setVm vm') q1 hS
    refine ⟨vm2, q3, fun Q E d acts => ?_⟩
    rw [q2, if_neg (by rw [w3]; decide), q4]
    exact Iff.rfl
end
section
variable {p : Program} {l : Launch} {e : Env} {R : Room} {s : State} {m : MethodId} {args : Array Value} {below : List Frame} {meth : Method} {c : Code} {H : Heap} {locs : List Loc} {cells slots : Nat} {Q : State → Prop}
variable {cc : ByteArray} {nL : Nat} {own : String} {ret : Option FieldType} {D : va_G} {d : Nat → ClassId} {E : State → Prop} {A : Nat → Prop} {wf : CS → va_W} {st : CS} {pc : Nat} {ls : Array Slot} {rest : List Value} {mc ms : Nat}
/-- an exception with a text, raised and caught: the walk goes on at the handler, the world as it was -/
theorem x_caughtC (F : Fx p s m args meth c cc nL own ret D d E A) (C : Cx D wf A s st H locs) (hN : NS A s) (htr : e.platform.stackTraces = false) {hh : List (Nat × Nat × Nat × Nat)} (hT : HT c hh) {cls : String} {names : List String} {text : String}
    (hcls : Bundle.fit cls = true) (hnames : ∀ n ∈ names, Bundle.fit n = true) (hsoe : (cls == "java/lang/StackOverflowError") = false) (hoom : (cls == "java/lang/OutOfMemoryError") = false)
    (h : ∀ a ∈ Bundle.messageArmAtoms cls names, a.before args s = true)
    (htext : (text == notModelled) = false) {n : Nat} (hsize : (stringBytes (stringToUtf16 text)).size + 10 ≤ n) (hn9 : n ≤ 65536) (hls : ls.size = nL)
    (hRframes : names.length + 4 < R.frames) (hRlocals : (rest.map fun v => v.category).sum + 10240 ≤ R.locals) (hshort : 13 * names.length + 55 ≤ 10240)
    (hRcells : cells + 3 ≤ R.cells) (hRslots : slots + n ≤ R.slots) {hpc : Nat} {g0 : JFrame}
    (raise : ∀ T : State, T.heap = H → Stand p l e R s m args below meth c T locs cells slots → ∀ target, Steps p.tables e below ((T.setTop (F0 m pc ls rest)).pushFrame (.throwNew cls (some text) none)) target → Steps p.tables e below (T.setTop g0) target)
    (hfind : e.platform.magicAccessors = ({} : Platform).magicAccessors → ∀ (a : Addr) (ce : Cell), ce.vm = .none → s.vm.findClass cls = some ce.cls → (∃ kX : Class, s.vm.classes[ce.cls]? = some kX) → FT s e (F0 m pc ls rest) a ce hh hpc)
    (k : ∀ (H1 : Heap) (locs1 : List Loc) (a : Addr), Cx D wf A s st H1 locs1 → W p l e R s m args below meth c H1 locs1 (cells + 3) (slots + n) Q (F0 m hpc ls [.ref a])) :
    W p l e R s m args below meth c H locs cells slots Q g0 := by
  intro T0 hT0 X0
  have hpl : e.platform.magicAccessors = ({} : Platform).magicAccessors := by rw [X0.admits.platform]
  have hmeth := X0.method
  have hcode := X0.code
  revert T0
  have hml := F.2.2.2.1
  exact x_caught (g := F0 m pc ls rest) F.1 htr hcls hnames hsoe hoom h (Cx.ns hN C) htext hsize hn9 rfl (hls.trans hml.symm) hRframes (by simpa [JFrame.monitorRoom] using hRlocals) hshort hRcells hRslots raise
    (fun U a ce hW hc hv hf hk _ => by
      obtain ⟨vm', q1, q2⟩ := hfind hpl a ce hv hf hk c.exceptionTable.toList hT ((U.setTop (F0 m pc ls rest)).pushFrame (.throwing a)) (by rw [Stand.throwing_vm]; exact hW) (by rw [Stand.throwing_heap]; exact hc)
      refine ⟨vm', q1, fun Q E d acts => ?_⟩
      rw [W.findHandler_eq (meth := meth) (code := c) (by rw [Stand.throwing_vm, hW.alike.method?]; exact hmeth) hcode]
      exact q2 Q E d acts)
    (fun H1 locs1 a hz ho hl => k H1 locs1 a (Cx.grown F C (by omega) ho (fun y hy => (hl y hy).imp id (fun h => by rw [h]; omega))))
end
end
