section
/-! BASE: the states of the two objects as pure values, contracts over them -/
/-- a state: ints, longs, int arrays, long arrays, reference arrays (all by the field's number); the pool's addresses; the pool's entries (code, length, ints) -/
abbrev CS : Type := (Nat → Int32) × (Nat → Int64) × (Nat → Nat → Int32) × (Nat → Nat → Int64) × (Nat → Nat → Option Nat) × List Nat × (Nat → Nat × Nat × (Nat → Int32))
def sI (s : CS) (k : Nat) : Int32 := s.1 k
def sL (s : CS) (k : Nat) : Int64 := s.2.1 k
def sA (s : CS) (k : Nat) : Nat → Int32 := s.2.2.1 k
def sM (s : CS) (k : Nat) : Nat → Int64 := s.2.2.2.1 k
def sR (s : CS) (k : Nat) : Nat → Option Nat := s.2.2.2.2.1 k
def sP (s : CS) : List Nat := s.2.2.2.2.2.1
def sE (s : CS) (a : Nat) : Nat × Nat × (Nat → Int32) := s.2.2.2.2.2.2 a
def uI (s : CS) (k : Nat) (v : Int32) : CS := (va_up s.1 k v, s.2)
def uL (s : CS) (k : Nat) (v : Int64) : CS := (s.1, va_up s.2.1 k v, s.2.2)
def uA (s : CS) (k i : Nat) (v : Int32) : CS := (s.1, s.2.1, va_up s.2.2.1 k (upd (s.2.2.1 k) i v), s.2.2.2)
def uM (s : CS) (k i : Nat) (v : Int64) : CS := (s.1, s.2.1, s.2.2.1, va_up s.2.2.2.1 k (vp_updL (s.2.2.2.1 k) i v), s.2.2.2.2)
def uR (s : CS) (k i : Nat) (v : Option Nat) : CS := (s.1, s.2.1, s.2.2.1, s.2.2.2.1, va_up s.2.2.2.2.1 k (va_up (s.2.2.2.2.1 k) i v), s.2.2.2.2.2)
/-- an entry of the pool is written -/
def uE (s : CS) (a : Nat) (v : Nat × Nat × (Nat → Int32)) : CS := (s.1, s.2.1, s.2.2.1, s.2.2.2.1, s.2.2.2.2.1, s.2.2.2.2.2.1, va_up s.2.2.2.2.2.2 a v)
/-- a new entry joins the pool -/
def uN (s : CS) (a : Nat) (v : Nat × Nat × (Nat → Int32)) : CS := (s.1, s.2.1, s.2.2.1, s.2.2.2.1, s.2.2.2.2.1, s.2.2.2.2.2.1 ++ [a], va_up s.2.2.2.2.2.2 a v)
/-- all entries of an int array at once -/
def uAA (s : CS) (k : Nat) (f : Nat → Int32) : CS := (s.1, s.2.1, va_up s.2.2.1 k f, s.2.2.2)
def zb (v : Int32) : Prop := narrow .boolean (.int v) = .int v
theorem zb_0 : zb 0 := rfl
theorem zb_1 : zb 1 := rfl
abbrev kcl : List vw_C := [(RX0, TX0, 41), (RX2, TX2, 4), (RX3, TX3, 6), (RX4, TX4, 6), (RX5, TX5, 8), (RX1, TX1, 55)]
abbrev kty (d : Nat → ClassId) : List (ClassId × FieldType) := [(d 0, .int), (d 1, .long), (d 2, .boolean), (d 3, .object "HeirHunters$Line"), (d 4, .array .int)]
def KX (D : va_G) (d : Nat → ClassId) (E : State → Prop) (U : State) : Prop := va_K D kcl (kty d) U ∧ E U
def Em (E : State → Prop) : Prop := ∀ u U : State, u.vm.Alike U.vm → E u → E U
theorem KX.moved {D : va_G} {d : Nat → ClassId} {E : State → Prop} (hE : Em E) {u U : State} (h : u.vm.Alike U.vm) (k : KX D d E u) : KX D d E U := ⟨va_K.moved h k.1, hE u U h k.2⟩
def PX (D : va_G) (d : Nat → ClassId) (E : State → Prop) (w : va_W) (sz : Nat) (U : State) : Prop := U.heap.size = sz ∧ va_P D kcl w U.heap ∧ KX D d E U ∧ va_D (fun _ => True) w
def BX (D : va_G) (d : Nat → ClassId) (E : State → Prop) (wf : CS → va_W) (A : Nat → Prop) (u : CS) (t : State) : Prop := va_P D kcl (wf u) t.heap ∧ KX D d E t ∧ va_D A (wf u)
def CtI (l : Launch) (y : MethodName) (ws : List Cond) (rm : Room) (D : va_G) (d : Nat → ClassId) (E : State → Prop) (wf : CS → va_W) (mc ms : Nat) (As : List Value) (st : CS) (post : Int32 → CS → Prop) : Prop :=
  ∀ sz : Nat, Met l y ws rm (va_Pc As (PX D d E (wf st) sz)) (va_Qi post (BX D d E wf (va_A (wf st) sz)) (va_A (wf st) sz)) mc ms (va_A (wf st) sz)
def CtL (l : Launch) (y : MethodName) (ws : List Cond) (rm : Room) (D : va_G) (d : Nat → ClassId) (E : State → Prop) (wf : CS → va_W) (mc ms : Nat) (As : List Value) (st : CS) (post : Int64 → CS → Prop) : Prop :=
  ∀ sz : Nat, Met l y ws rm (va_Pc As (PX D d E (wf st) sz)) (va_Ql post (BX D d E wf (va_A (wf st) sz)) (va_A (wf st) sz)) mc ms (va_A (wf st) sz)
def CtV (l : Launch) (y : MethodName) (ws : List Cond) (rm : Room) (D : va_G) (d : Nat → ClassId) (E : State → Prop) (wf : CS → va_W) (mc ms : Nat) (As : List Value) (st : CS) (post : CS → Prop) : Prop :=
  ∀ sz : Nat, Met l y ws rm (va_Pc As (PX D d E (wf st) sz)) (va_Qv post (BX D d E wf (va_A (wf st) sz)) (va_A (wf st) sz)) mc ms (va_A (wf st) sz)
/-- what stays fixed in a method's body -/
def Fx (p : Program) (s : State) (m : MethodId) (args : Array Value) (meth : Method) (c : Code) (cc : ByteArray) (nL : Nat) (own : String) (ret : Option FieldType) (D : va_G) (d : Nat → ClassId) (E : State → Prop) (A : Nat → Prop) : Prop :=
  p.tables.exec = Jvm.exec ∧ c.code = cc ∧ meth.sig.returnType = ret ∧ c.maxLocals = nL ∧ s.vm.findClass own = some m.cls ∧ (∀ w ∈ lw_all, w.before args s = true) ∧ meth.locks = false ∧ (∀ q : Nat, s.heap.size ≤ q → A q) ∧ KX D d E s ∧ Em E
/-- the world at a point of the body -/
def Cx (D : va_G) (wf : CS → va_W) (A : Nat → Prop) (s : State) (st : CS) (H : Heap) (locs : List Loc) : Prop := va_P D kcl (wf st) H ∧ va_D A (wf st) ∧ va_S A s.heap H locs
def QI (below : List Frame) (D : va_G) (d : Nat → ClassId) (E : State → Prop) (wf : CS → va_W) (A : Nat → Prop) (args : Array Value) (s : State) (mc ms : Nat) (post : Int32 → CS → Prop) : State → Prop := MQ below (va_Qi post (BX D d E wf A) A) args s mc ms A
def QL (below : List Frame) (D : va_G) (d : Nat → ClassId) (E : State → Prop) (wf : CS → va_W) (A : Nat → Prop) (args : Array Value) (s : State) (mc ms : Nat) (post : Int64 → CS → Prop) : State → Prop := MQ below (va_Ql post (BX D d E wf A) A) args s mc ms A
def QV (below : List Frame) (D : va_G) (d : Nat → ClassId) (E : State → Prop) (wf : CS → va_W) (A : Nat → Prop) (args : Array Value) (s : State) (mc ms : Nat) (post : CS → Prop) : State → Prop := MQ below (va_Qv post (BX D d E wf A) A) args s mc ms A
section
variable {l : Launch} {y : MethodName} {rm : Room} {D : va_G} {d : Nat → ClassId} {E : State → Prop} {wf : CS → va_W} {mc ms : Nat} {As : List Value} {st : CS} {cc : ByteArray} {nL : Nat}
/-- a method's body, from its entry -/
theorem Fx.of {ret : Option FieldType} {own : String} {p : Program} {e : Env} {s : State} {m : MethodId} {args : Array Value} {below : List Frame} {meth : Method} {c : Code} {s₁ : State} {sz : Nat} (hE : Em E) (hown : y.cls = own)
    (B : BodyLoose p l y (headSpec (ws_ y cc nL ret) rm) cc nL ret e s m args below meth c s₁) (hml : c.maxLocals = nL) (hv : va_Pc As (PX D d E (wf st) sz) args s) :
    args = As.toArray ∧ Fx p s m args meth c cc nL own ret D d E (va_A (wf st) sz) ∧ Cx D wf (va_A (wf st) sz) s st s.heap [] := by
  obtain ⟨rfl, hsz, hP, hK, hD0⟩ := hv
  subst hsz
  have hts := atoms_spec (ws := ws_ y cc nL ret) B.pre
  exact ⟨rfl, ⟨B.exec, B.bytes, B.returns, hml, by rw [← hown]; exact findClass_of_methodNamed B.named, fun w h => hts w (List.mem_cons_of_mem _ h), B.notSynchronized, fun q h => Or.inr h, hK, hE⟩, hP, hD0.self, va_S.rf⟩
theorem CtI.of {own : String} {ret : Option FieldType} {post : Int32 → CS → Prop} (hE : Em E) (hy : plainName y.cls = true) (hown : y.cls = own) (hn : (lg_sl As).length ≤ nL)
    (body : ∀ (p : Program) (e : Env) (s : State) (m : MethodId) (below : List Frame) (meth : Method) (c : Code) (A : Nat → Prop) (ls : Array Slot), Fx p s m As.toArray meth c cc nL own ret D d E A → Cx D wf A s st s.heap [] → lv_has ls nL (lv_args 0 As) →
      W p l e (headSpec (ws_ y cc nL ret) rm).room s m As.toArray below meth c s.heap [] 0 0 (QI below D d E wf A As.toArray s mc ms post) (F0 m 0 ls [])) :
    CtI l y (ws_ y cc nL ret) rm D d E wf mc ms As st post := by
  intro sz
  refine Met.ofW (cc := cc) (maxL := nL) (ret := ret) hy rfl ?_
  intro p e s m args below meth c s₁ B hml hv
  obtain ⟨rfl, hF, hC⟩ := Fx.of hE hown B hml hv
  have hl := lv_entry As (n := nL) hn
  rw [lg_entry_eq]
  exact body p e s m below meth c _ _ hF hC hl
theorem CtL.of {own : String} {ret : Option FieldType} {post : Int64 → CS → Prop} (hE : Em E) (hy : plainName y.cls = true) (hown : y.cls = own) (hn : (lg_sl As).length ≤ nL)
    (body : ∀ (p : Program) (e : Env) (s : State) (m : MethodId) (below : List Frame) (meth : Method) (c : Code) (A : Nat → Prop) (ls : Array Slot), Fx p s m As.toArray meth c cc nL own ret D d E A → Cx D wf A s st s.heap [] → lv_has ls nL (lv_args 0 As) →
      W p l e (headSpec (ws_ y cc nL ret) rm).room s m As.toArray below meth c s.heap [] 0 0 (QL below D d E wf A As.toArray s mc ms post) (F0 m 0 ls [])) :
    CtL l y (ws_ y cc nL ret) rm D d E wf mc ms As st post := by
  intro sz
  refine Met.ofW (cc := cc) (maxL := nL) (ret := ret) hy rfl ?_
  intro p e s m args below meth c s₁ B hml hv
  obtain ⟨rfl, hF, hC⟩ := Fx.of hE hown B hml hv
  have hl := lv_entry As (n := nL) hn
  rw [lg_entry_eq]
  exact body p e s m below meth c _ _ hF hC hl
theorem CtV.of {own : String} {ret : Option FieldType} {post : CS → Prop} (hE : Em E) (hy : plainName y.cls = true) (hown : y.cls = own) (hn : (lg_sl As).length ≤ nL)
    (body : ∀ (p : Program) (e : Env) (s : State) (m : MethodId) (below : List Frame) (meth : Method) (c : Code) (A : Nat → Prop) (ls : Array Slot), Fx p s m As.toArray meth c cc nL own ret D d E A → Cx D wf A s st s.heap [] → lv_has ls nL (lv_args 0 As) →
      W p l e (headSpec (ws_ y cc nL ret) rm).room s m As.toArray below meth c s.heap [] 0 0 (QV below D d E wf A As.toArray s mc ms post) (F0 m 0 ls [])) :
    CtV l y (ws_ y cc nL ret) rm D d E wf mc ms As st post := by
  intro sz
  refine Met.ofW (cc := cc) (maxL := nL) (ret := ret) hy rfl ?_
  intro p e s m args below meth c s₁ B hml hv
  obtain ⟨rfl, hF, hC⟩ := Fx.of hE hown B hml hv
  have hl := lv_entry As (n := nL) hn
  rw [lg_entry_eq]
  exact body p e s m below meth c _ _ hF hC hl
end
section
variable {p : Program} {l : Launch} {e : Env} {R : Room} {s : State} {m : MethodId} {args : Array Value} {below : List Frame} {meth : Method} {c : Code} {H : Heap} {locs : List Loc} {cells slots : Nat} {Q : State → Prop}
variable {cc : ByteArray} {nL : Nat} {own : String} {ret : Option FieldType} {D : va_G} {d : Nat → ClassId} {E : State → Prop} {A : Nat → Prop} {wf : CS → va_W} {st : CS} {pc : Nat} {ls : Array Slot} {rest : List Value} {mc ms : Nat}
/-- the ends -/
theorem x_iret {post : Int32 → CS → Prop} {v : Int32} (F : Fx p s m args meth c cc nL own (some .int) D d E A) (C : Cx D wf A s st H locs) (hp : post v st) (hdg : decode cc pc = .ok (.ireturn, 1)) :
    W p l e R s m args below meth c H locs mc ms (QI below D d E wf A args s mc ms post) (F0 m pc ls [.int v]) := by
  obtain ⟨hx, hb, hr, hml, hown, hts, hlk, hA, hK, hE⟩ := F
  obtain ⟨hP, hD, hS⟩ := C
  exact W.iret (v := v) hx hb hr (fun t ht hW => ⟨⟨v, st, rfl, hp, by rw [ht]; exact hP, KX.moved hE hW.alike hK, hD⟩, hS.F ht⟩) hS.2.2 hdg hlk
theorem x_zret {post : Int32 → CS → Prop} {v : Int32} (F : Fx p s m args meth c cc nL own (some .boolean) D d E A) (C : Cx D wf A s st H locs) (hz : zb v) (hp : post v st) (hdg : decode cc pc = .ok (.ireturn, 1)) :
    W p l e R s m args below meth c H locs mc ms (QI below D d E wf A args s mc ms post) (F0 m pc ls [.int v]) := by
  obtain ⟨hx, hb, hr, hml, hown, hts, hlk, hA, hK, hE⟩ := F
  obtain ⟨hP, hD, hS⟩ := C
  exact W.zret (v := v) hx hb hr hz (fun t ht hW => ⟨⟨v, st, rfl, hp, by rw [ht]; exact hP, KX.moved hE hW.alike hK, hD⟩, hS.F ht⟩) hS.2.2 hdg hlk
theorem x_lret {post : Int64 → CS → Prop} {v : Int64} (F : Fx p s m args meth c cc nL own (some .long) D d E A) (C : Cx D wf A s st H locs) (hp : post v st) (hdg : decode cc pc = .ok (.lreturn, 1)) :
    W p l e R s m args below meth c H locs mc ms (QL below D d E wf A args s mc ms post) (F0 m pc ls [.long v]) := by
  obtain ⟨hx, hb, hr, hml, hown, hts, hlk, hA, hK, hE⟩ := F
  obtain ⟨hP, hD, hS⟩ := C
  exact W.lret (v := v) hx hb hr (fun t ht hW => ⟨⟨v, st, rfl, hp, by rw [ht]; exact hP, KX.moved hE hW.alike hK, hD⟩, hS.F ht⟩) hS.2.2 hdg hlk
theorem x_vret {post : CS → Prop} (F : Fx p s m args meth c cc nL own none D d E A) (C : Cx D wf A s st H locs) (hp : post st) (hdg : decode cc pc = .ok (.return_, 1)) :
    W p l e R s m args below meth c H locs mc ms (QV below D d E wf A args s mc ms post) (F0 m pc ls []) := by
  obtain ⟨hx, hb, hr, hml, hown, hts, hlk, hA, hK, hE⟩ := F
  obtain ⟨hP, hD, hS⟩ := C
  exact W.vret hx hb hr (fun t ht hW => ⟨⟨st, rfl, hp, by rw [ht]; exact hP, KX.moved hE hW.alike hK, hD⟩, hS.F ht⟩) hS.2.2 hdg hlk
/-- what a contract asks of its start is had at the call -/
theorem PX.blind {As : List Value} {w : va_W} {sz : Nat} (hE : Em E) : FrameBlind (va_Pc As (PX D d E w sz)) := fun a U g mk q => by
  obtain ⟨q0, q1, qP, qK, qD⟩ := q
  exact ⟨q0, q1, qP, KX.moved (u := U) (U := U.calling g mk a) hE (Vm.Alike.refl U.vm) qK, qD⟩
theorem PX.at {As : List Value} (F : Fx p s m args meth c cc nL own ret D d E A) (C : Cx D wf A s st H locs) (U : State) (hU : U.heap = H) (hW : s.WarmedH U.vm) : va_Pc As (PX D d E (wf st) H.size) As.toArray U := by
  obtain ⟨hx, hb, hr, hml, hown, hts, hlk, hA, hK, hE⟩ := F
  obtain ⟨hP, hD, hS⟩ := C
  exact ⟨rfl, by rw [hU], by rw [hU]; exact hP, KX.moved hE hW.alike hK, hD.weaken (fun _ _ _ _ => trivial)⟩
theorem Cx.free (F : Fx p s m args meth c cc nL own ret D d E A) (C : Cx D wf A s st H locs) : ∀ q : Nat, va_A (wf st) H.size q → A q := by
  obtain ⟨hx, hb, hr, hml, hown, hts, hlk, hA, hK, hE⟩ := F
  obtain ⟨hP, hD, hS⟩ := C
  intro q h
  rcases h with ⟨k, e, hk⟩ | h
  · exact hD.2 k _ hk
  · exact hA q (Nat.le_trans hS.1 h)
theorem Cx.back (F : Fx p s m args meth c cc nL own ret D d E A) (C : Cx D wf A s st H locs) {u : CS} {t : State} {H1 : Heap} {locs1 : List Loc} (ht : t.heap = H1) (hB : BX D d E wf (va_A (wf st) H.size) u t) (hS1 : va_S A s.heap H1 locs1) : Cx D wf A s u H1 locs1 := by
  obtain ⟨hP1, hK1, hD1⟩ := hB
  rw [ht] at hP1
  exact ⟨hP1, hD1.weaken (fun _ _ hk _ => Cx.free F C _ (hD1.2 _ _ hk)), hS1⟩
/-- calls on the same world -/
theorem x_callI {y : MethodName} {bytes : ByteArray} {maxL n index ci : Nat} {rt : Option FieldType} {rm : Room} {As : List Value} {o : Nat} {fs : List Value} {q : vw_C} {post : Int32 → CS → Prop} (F : Fx p s m args meth c cc nL own ret D d E A) (C : Cx D wf A s st H locs)
    (hM : CtI l y (ws_ y bytes maxL rt) rm D d E wf 0 0 (.ref o :: As) st post) (cw : CallW R s args own q.1 index y bytes maxL rt (ws_ y bytes maxL rt) rm 0 0 n) (he : (wf st)[0]? = some (o, .inr (ci, fs))) (hc : kcl[ci]? = some q)
    (hn : As.length = n) (hsz : ls.size = nL) {st0 : List Value} (hst : st0 = As.reverse ++ .ref o :: rest) (hW : (rest.map fun v => v.category).sum ≤ 8) (hdg : decode cc pc = .ok (.invokevirtual index, 3)) (hf : cells ≤ R.cells ∧ slots ≤ R.slots)
    (k : ∀ (r : Int32) (st' : CS) (H1 : Heap) (locs1 : List Loc), post r st' → Cx D wf A s st' H1 locs1 → W p l e R s m args below meth c H1 locs1 cells slots Q (F0 m (pc + 3) ls (.int r :: rest))) :
    W p l e R s m args below meth c H locs cells slots Q (F0 m pc ls st0) := by
  have F' := F
  obtain ⟨hx, hb, hr, hml, hown, hts, hlk, hA, hK, hE⟩ := F'
  refine va_calli (va_runV (Ts := lw_all) (rest := rest) ⟨hx, hb, hml, hown, hts⟩ (hM H.size) cw ⟨PX.blind hE, va_recv hK.1 C.1 hc he, PX.at F C⟩ rfl hn hsz hst (by simpa [JFrame.monitorRoom] using hW) hdg hf) C.2.2 (fun q _ h => Cx.free F C q h) (Cx.free F C) (fun r u t H1 locs1 ht hvm hw hB hz hk hS => ?_)
  exact k r u H1 locs1 hw (Cx.back F C ht hB hS)
theorem x_callL {y : MethodName} {bytes : ByteArray} {maxL n index ci : Nat} {rt : Option FieldType} {rm : Room} {As : List Value} {o : Nat} {fs : List Value} {q : vw_C} {post : Int64 → CS → Prop} (F : Fx p s m args meth c cc nL own ret D d E A) (C : Cx D wf A s st H locs)
    (hM : CtL l y (ws_ y bytes maxL rt) rm D d E wf 0 0 (.ref o :: As) st post) (cw : CallW R s args own q.1 index y bytes maxL rt (ws_ y bytes maxL rt) rm 0 0 n) (he : (wf st)[0]? = some (o, .inr (ci, fs))) (hc : kcl[ci]? = some q)
    (hn : As.length = n) (hsz : ls.size = nL) {st0 : List Value} (hst : st0 = As.reverse ++ .ref o :: rest) (hW : (rest.map fun v => v.category).sum ≤ 8) (hdg : decode cc pc = .ok (.invokevirtual index, 3)) (hf : cells ≤ R.cells ∧ slots ≤ R.slots)
    (k : ∀ (r : Int64) (st' : CS) (H1 : Heap) (locs1 : List Loc), post r st' → Cx D wf A s st' H1 locs1 → W p l e R s m args below meth c H1 locs1 cells slots Q (F0 m (pc + 3) ls (.long r :: rest))) :
    W p l e R s m args below meth c H locs cells slots Q (F0 m pc ls st0) := by
  have F' := F
  obtain ⟨hx, hb, hr, hml, hown, hts, hlk, hA, hK, hE⟩ := F'
  refine va_calll (va_runV (Ts := lw_all) (rest := rest) ⟨hx, hb, hml, hown, hts⟩ (hM H.size) cw ⟨PX.blind hE, va_recv hK.1 C.1 hc he, PX.at F C⟩ rfl hn hsz hst (by simpa [JFrame.monitorRoom] using hW) hdg hf) C.2.2 (fun q _ h => Cx.free F C q h) (Cx.free F C) (fun r u t H1 locs1 ht hvm hw hB hz hk hS => ?_)
  exact k r u H1 locs1 hw (Cx.back F C ht hB hS)
theorem x_callV {y : MethodName} {bytes : ByteArray} {maxL n index ci : Nat} {rt : Option FieldType} {rm : Room} {As : List Value} {o : Nat} {fs : List Value} {q : vw_C} {post : CS → Prop} (F : Fx p s m args meth c cc nL own ret D d E A) (C : Cx D wf A s st H locs)
    (hM : CtV l y (ws_ y bytes maxL rt) rm D d E wf 0 0 (.ref o :: As) st post) (cw : CallW R s args own q.1 index y bytes maxL rt (ws_ y bytes maxL rt) rm 0 0 n) (he : (wf st)[0]? = some (o, .inr (ci, fs))) (hc : kcl[ci]? = some q)
    (hn : As.length = n) (hsz : ls.size = nL) {st0 : List Value} (hst : st0 = As.reverse ++ .ref o :: rest) (hW : (rest.map fun v => v.category).sum ≤ 8) (hdg : decode cc pc = .ok (.invokevirtual index, 3)) (hf : cells ≤ R.cells ∧ slots ≤ R.slots)
    (k : ∀ (st' : CS) (H1 : Heap) (locs1 : List Loc), post st' → Cx D wf A s st' H1 locs1 → W p l e R s m args below meth c H1 locs1 cells slots Q (F0 m (pc + 3) ls rest)) :
    W p l e R s m args below meth c H locs cells slots Q (F0 m pc ls st0) := by
  have F' := F
  obtain ⟨hx, hb, hr, hml, hown, hts, hlk, hA, hK, hE⟩ := F'
  refine va_callv (va_runV (Ts := lw_all) (rest := rest) ⟨hx, hb, hml, hown, hts⟩ (hM H.size) cw ⟨PX.blind hE, va_recv hK.1 C.1 hc he, PX.at F C⟩ rfl hn hsz hst (by simpa [JFrame.monitorRoom] using hW) hdg hf) C.2.2 (fun q _ h => Cx.free F C q h) (Cx.free F C) (fun u t H1 locs1 ht hvm hw hB hz hk hS => ?_)
  exact k u H1 locs1 hw (Cx.back F C ht hB hS)
theorem x_callSI {y : MethodName} {bytes : ByteArray} {maxL n index : Nat} {rt : Option FieldType} {rm : Room} {As : List Value} {post : Int32 → CS → Prop} (F : Fx p s m args meth c cc nL own ret D d E A) (C : Cx D wf A s st H locs)
    (hM : CtI l y (ws_ y bytes maxL rt) rm D d E wf 0 0 As st post) (cw : CallB R s args own index y bytes maxL rt (ws_ y bytes maxL rt) rm 0 0 n ∧ (Cond.static y).before args s = true)
    (hn : As.length = n) (hsz : ls.size = nL) {st0 : List Value} (hst : st0 = As.reverse ++ rest) (hW : (rest.map fun v => v.category).sum ≤ 8) (hdg : decode cc pc = .ok (.invokestatic index, 3)) (hf : cells ≤ R.cells ∧ slots ≤ R.slots)
    (k : ∀ (r : Int32) (st' : CS) (H1 : Heap) (locs1 : List Loc), post r st' → Cx D wf A s st' H1 locs1 → W p l e R s m args below meth c H1 locs1 cells slots Q (F0 m (pc + 3) ls (.int r :: rest))) :
    W p l e R s m args below meth c H locs cells slots Q (F0 m pc ls st0) := by
  have F' := F
  obtain ⟨hx, hb, hr, hml, hown, hts, hlk, hA, hK, hE⟩ := F'
  refine va_calli (va_runS (Ts := lw_all) (rest := rest) ⟨hx, hb, hml, hown, hts⟩ (hM H.size) cw ⟨PX.blind hE, PX.at F C⟩ rfl hn hsz hst (by simpa [JFrame.monitorRoom] using hW) hdg hf) C.2.2 (fun q _ h => Cx.free F C q h) (Cx.free F C) (fun r u t H1 locs1 ht hvm hw hB hz hk hS => ?_)
  exact k r u H1 locs1 hw (Cx.back F C ht hB hS)
theorem x_callSL {y : MethodName} {bytes : ByteArray} {maxL n index : Nat} {rt : Option FieldType} {rm : Room} {As : List Value} {post : Int64 → CS → Prop} (F : Fx p s m args meth c cc nL own ret D d E A) (C : Cx D wf A s st H locs)
    (hM : CtL l y (ws_ y bytes maxL rt) rm D d E wf 0 0 As st post) (cw : CallB R s args own index y bytes maxL rt (ws_ y bytes maxL rt) rm 0 0 n ∧ (Cond.static y).before args s = true)
    (hn : As.length = n) (hsz : ls.size = nL) {st0 : List Value} (hst : st0 = As.reverse ++ rest) (hW : (rest.map fun v => v.category).sum ≤ 8) (hdg : decode cc pc = .ok (.invokestatic index, 3)) (hf : cells ≤ R.cells ∧ slots ≤ R.slots)
    (k : ∀ (r : Int64) (st' : CS) (H1 : Heap) (locs1 : List Loc), post r st' → Cx D wf A s st' H1 locs1 → W p l e R s m args below meth c H1 locs1 cells slots Q (F0 m (pc + 3) ls (.long r :: rest))) :
    W p l e R s m args below meth c H locs cells slots Q (F0 m pc ls st0) := by
  have F' := F
  obtain ⟨hx, hb, hr, hml, hown, hts, hlk, hA, hK, hE⟩ := F'
  refine va_calll (va_runS (Ts := lw_all) (rest := rest) ⟨hx, hb, hml, hown, hts⟩ (hM H.size) cw ⟨PX.blind hE, PX.at F C⟩ rfl hn hsz hst (by simpa [JFrame.monitorRoom] using hW) hdg hf) C.2.2 (fun q _ h => Cx.free F C q h) (Cx.free F C) (fun r u t H1 locs1 ht hvm hw hB hz hk hS => ?_)
  exact k r u H1 locs1 hw (Cx.back F C ht hB hS)
end
end
