section
/-! calls on pooled objects -/
section
variable {l : Launch} {y : MethodName} {rm : Room} {D : va_G} {d : Nat → ClassId} {E : State → Prop} {wf : CS → va_W} {mc ms : Nat} {As : List Value} {st : CS} {cc : ByteArray} {nL : Nat}
theorem CtV.ofI {own : String} {ret : Option FieldType} {post : CS → Prop} (hE : Em E) (hy : plainName y.cls = true) (hown : y.cls = own) (hn : (lg_sl As).length ≤ nL) (hyn : y.name = "<init>")
    (body : ∀ (p : Program) (e : Env) (s : State) (m : MethodId) (below : List Frame) (meth : Method) (c : Code) (A : Nat → Prop) (ls : Array Slot), Fx p s m As.toArray meth c cc nL own ret D d E A → Cx D wf A s st s.heap [] → meth.name = "<init>" → lv_has ls nL (lv_args 0 As) →
      W p l e (headSpec (ws_ y cc nL ret) rm).room s m As.toArray below meth c s.heap [] 0 0 (QV below D d E wf A As.toArray s mc ms post) (F0 m 0 ls [])) :
    CtV l y (ws_ y cc nL ret) rm D d E wf mc ms As st post := by
  intro sz
  refine Met.ofW (cc := cc) (maxL := nL) (ret := ret) hy rfl ?_
  intro p e s m args below meth c s₁ B hml hv
  obtain ⟨rfl, hF, hC⟩ := Fx.of hE hown B hml hv
  have hl := lv_entry As (n := nL) hn
  rw [lg_entry_eq]
  exact body p e s m below meth c _ _ hF hC ((name_of_methodNamed B.named B.method).1.trans hyn) hl
end
section
variable {p : Program} {l : Launch} {e : Env} {R : Room} {s : State} {m : MethodId} {args : Array Value} {below : List Frame} {meth : Method} {c : Code} {H : Heap} {locs : List Loc} {cells slots mc ms : Nat} {Q : State → Prop}
variable {cc : ByteArray} {nL : Nat} {own : String} {ret : Option FieldType} {D : va_G} {d : Nat → ClassId} {E : State → Prop} {A : Nat → Prop} {st : CS} {pc : Nat} {ls : Array Slot} {rest : List Value} {o : Nat} {ad : Nat → Nat}
theorem xP_class (F : Fx p s m args meth c cc nL own ret D d E A) {ci : Nat} {q : vw_C} (hc : kcl[ci]? = some q) : ClassAt s q.1 (D.1 ci) := (F.2.2.2.2.2.2.2.2.1.1.1 ci q hc).2
theorem x_callPU {y x : MethodName} {owner : String} {bytes : ByteArray} {maxL n index ci a : Nat} {rt : Option FieldType} {rm : Room} {As : List Value} {fs : List Value} {q : vw_C} {post : Int32 → CS → Prop} (F : Fx p s m args meth c cc nL own ret D d E A) (C : Cx D (wX o ad d) A s st H locs) (ha : a ∈ sP st) (hp : pE o d (sE st a) = .inr (ci, fs)) (hc : kcl[ci]? = some q)
    (hM : CtI l y (ws_ y bytes maxL rt) rm D d E (wX o ad d) 0 0 (.ref a :: As) st post) (cw : va_CU R s args own q.1 owner index x y bytes maxL rt (ws_ y bytes maxL rt) rm 0 0 n)
    (hn : As.length = n) (hsz : ls.size = nL) {st0 : List Value} (hst : st0 = As.reverse ++ .ref a :: rest) (hW : (rest.map fun v => v.category).sum ≤ 8) (hdg : decode cc pc = .ok (.invokevirtual index, 3)) (hf : cells ≤ R.cells ∧ slots ≤ R.slots)
    (k : ∀ (r : Int32) (st' : CS) (H1 : Heap) (locs1 : List Loc), post r st' → Cx D (wX o ad d) A s st' H1 locs1 → W p l e R s m args below meth c H1 locs1 cells slots Q (F0 m (pc + 3) ls (.int r :: rest))) :
    W p l e R s m args below meth c H locs cells slots Q (F0 m pc ls st0) := by
  have F' := F
  obtain ⟨hx, hb, hr, hml, hown, hts, hlk, hA, hK, hE⟩ := F'
  refine va_calli (va_runU (Ts := lw_all) (rest := rest) ⟨hx, hb, hml, hown, hts⟩ (hM H.size) cw ⟨PX.blind hE, xP_recv F C ha hp hc, PX.at F C⟩ rfl hn hsz hst (by simpa [JFrame.monitorRoom] using hW) hdg hf) C.2.2 (fun q _ h => Cx.free F C q h) (Cx.free F C) (fun r u t H1 locs1 ht hvm hw hB hz hk hS => ?_)
  exact k r u H1 locs1 hw (Cx.back F C ht hB hS)
theorem x_callPV {y : MethodName} {bytes : ByteArray} {maxL n index ci a : Nat} {rt : Option FieldType} {rm : Room} {As : List Value} {fs : List Value} {q : vw_C} {post : Int32 → CS → Prop} (F : Fx p s m args meth c cc nL own ret D d E A) (C : Cx D (wX o ad d) A s st H locs) (ha : a ∈ sP st) (hp : pE o d (sE st a) = .inr (ci, fs)) (hc : kcl[ci]? = some q)
    (hM : CtI l y (ws_ y bytes maxL rt) rm D d E (wX o ad d) 0 0 (.ref a :: As) st post) (cw : CallW R s args own q.1 index y bytes maxL rt (ws_ y bytes maxL rt) rm 0 0 n)
    (hn : As.length = n) (hsz : ls.size = nL) {st0 : List Value} (hst : st0 = As.reverse ++ .ref a :: rest) (hW : (rest.map fun v => v.category).sum ≤ 8) (hdg : decode cc pc = .ok (.invokevirtual index, 3)) (hf : cells ≤ R.cells ∧ slots ≤ R.slots)
    (k : ∀ (r : Int32) (st' : CS) (H1 : Heap) (locs1 : List Loc), post r st' → Cx D (wX o ad d) A s st' H1 locs1 → W p l e R s m args below meth c H1 locs1 cells slots Q (F0 m (pc + 3) ls (.int r :: rest))) :
    W p l e R s m args below meth c H locs cells slots Q (F0 m pc ls st0) := by
  have F' := F
  obtain ⟨hx, hb, hr, hml, hown, hts, hlk, hA, hK, hE⟩ := F'
  refine va_calli (va_runV (Ts := lw_all) (rest := rest) ⟨hx, hb, hml, hown, hts⟩ (hM H.size) cw ⟨PX.blind hE, xP_recv F C ha hp hc, PX.at F C⟩ rfl hn hsz hst (by simpa [JFrame.monitorRoom] using hW) hdg hf) C.2.2 (fun q _ h => Cx.free F C q h) (Cx.free F C) (fun r u t H1 locs1 ht hvm hw hB hz hk hS => ?_)
  exact k r u H1 locs1 hw (Cx.back F C ht hB hS)
theorem x_callPS {y : MethodName} {bytes : ByteArray} {maxL n index ci a : Nat} {rt : Option FieldType} {rm : Room} {As : List Value} {fs : List Value} {q : vw_C} {post : Int32 → CS → Prop} (F : Fx p s m args meth c cc nL own ret D d E A) (C : Cx D (wX o ad d) A s st H locs) (ha : a ∈ sP st) (hp : pE o d (sE st a) = .inr (ci, fs)) (hc : kcl[ci]? = some q)
    (hM : CtI l y (ws_ y bytes maxL rt) rm D d E (wX o ad d) 0 0 (.ref a :: As) st post) (cw : va_CS R s args own index y bytes maxL rt (ws_ y bytes maxL rt) rm 0 0 n)
    (hn : As.length = n) (hsz : ls.size = nL) {st0 : List Value} (hst : st0 = As.reverse ++ .ref a :: rest) (hW : (rest.map fun v => v.category).sum ≤ 8) (hdg : decode cc pc = .ok (.invokespecial index, 3)) (hf : cells ≤ R.cells ∧ slots ≤ R.slots)
    (k : ∀ (r : Int32) (st' : CS) (H1 : Heap) (locs1 : List Loc), post r st' → Cx D (wX o ad d) A s st' H1 locs1 → W p l e R s m args below meth c H1 locs1 cells slots Q (F0 m (pc + 3) ls (.int r :: rest))) :
    W p l e R s m args below meth c H locs cells slots Q (F0 m pc ls st0) := by
  have F' := F
  obtain ⟨hx, hb, hr, hml, hown, hts, hlk, hA, hK, hE⟩ := F'
  refine va_calli (va_runSU (Ts := lw_all) (rest := rest) (xP_class F hc) ⟨hx, hb, hml, hown, hts⟩ (hM H.size) cw ⟨PX.blind hE, xP_recv F C ha hp hc, PX.at F C⟩ rfl hn hsz hst (by simpa [JFrame.monitorRoom] using hW) hdg hf) C.2.2 (fun q _ h => Cx.free F C q h) (Cx.free F C) (fun r u t H1 locs1 ht hvm hw hB hz hk hS => ?_)
  exact k r u H1 locs1 hw (Cx.back F C ht hB hS)
theorem x_callC {wf : CS → va_W} {y : MethodName} {bytes : ByteArray} {maxL n index a : Nat} {rm : Room} {As : List Value} {post : CS → Prop} (F : Fx p s m args meth c cc nL own ret D d E A) (C : Cx D wf A s st H locs)
    (hM : CtV l y (ws_ y bytes maxL none) rm D d E wf 0 0 (.ref a :: As) st post) (cw : CallB R s args own index y bytes maxL none (ws_ y bytes maxL none) rm 0 0 n ∧ y.name = "<init>" ∧ (Cond.instanceMethod y).before args s = true)
    (hn : As.length = n) (hsz : ls.size = nL) {st0 : List Value} (hst : st0 = As.reverse ++ .ref a :: rest) (hW : (rest.map fun v => v.category).sum ≤ 8) (hdg : decode cc pc = .ok (.invokespecial index, 3)) (hf : cells ≤ R.cells ∧ slots ≤ R.slots)
    (k : ∀ (st' : CS) (H1 : Heap) (locs1 : List Loc), post st' → Cx D wf A s st' H1 locs1 → W p l e R s m args below meth c H1 locs1 cells slots Q (F0 m (pc + 3) ls rest)) :
    W p l e R s m args below meth c H locs cells slots Q (F0 m pc ls st0) := by
  have F' := F
  obtain ⟨hx, hb, hr, hml, hown, hts, hlk, hA, hK, hE⟩ := F'
  refine va_callv (va_runI (Ts := lw_all) (rest := rest) ⟨hx, hb, hml, hown, hts⟩ (hM H.size) cw ⟨PX.blind hE, PX.at F C⟩ rfl hn hsz hst (by simpa [JFrame.monitorRoom] using hW) hdg hf) C.2.2 (fun q _ h => Cx.free F C q h) (Cx.free F C) (fun u t H1 locs1 ht hvm hw hB hz hk hS => ?_)
  exact k u H1 locs1 hw (Cx.back F C ht hB hS)
end
theorem lw_SU {own : String} {idx : Nat} {y : MethodName} {b : ByteArray} {L : Nat} {r : Option FieldType} (h1 : Cond.methodLink own idx y ∈ lw_all) (h2 : Cond.sameMethod y.cls y.cls y.name y.desc ∈ lw_all) (h3 : Cond.superclass own y.cls ∈ lw_all) (h4 : Cond.instanceMethod y ∈ lw_all) (h5 : Cond.initialized y.cls ∈ lw_all) (h6 : Cond.code y b L r ∈ lw_all) : GoodIn lw_all (va_wsSU own idx y (ws_ y b L r)) := by
  refine lw_app ?_ (lw_meth h6)
  intro w hw
  simp only [List.mem_cons, List.not_mem_nil, or_false] at hw
  rcases hw with e | e | e | e | e
  · rw [e]; exact h1
  · rw [e]; exact h2
  · rw [e]; exact h3
  · rw [e]; exact h4
  · rw [e]; exact h5
theorem lw_O {own : String} {idx : Nat} {C owner : String} {x y : MethodName} {b : ByteArray} {L : Nat} {r : Option FieldType} (h1 : Cond.methodLink own idx x ∈ lw_all) (h2 : Cond.sameMethod x.cls owner x.name x.desc ∈ lw_all) (h3 : Cond.instanceMethod ⟨owner, x.name, x.desc⟩ ∈ lw_all) (h4 : Cond.selects C x y ∈ lw_all) (h5 : Cond.instanceMethod y ∈ lw_all) (h6 : Cond.initialized y.cls ∈ lw_all) (h7 : Cond.code y b L r ∈ lw_all) : GoodIn lw_all (va_wsO own idx C owner x y (ws_ y b L r)) := by
  refine lw_app ?_ (lw_meth h7)
  intro w hw
  simp only [List.mem_cons, List.not_mem_nil, or_false] at hw
  rcases hw with e | e | e | e | e | e
  · rw [e]; exact h1
  · rw [e]; exact h2
  · rw [e]; exact h3
  · rw [e]; exact h4
  · rw [e]; exact h5
  · rw [e]; exact h6
theorem nmPX2 : nmP TX2 4 := by unfold nmP; decide +kernel
theorem nmPX3 : nmP TX3 6 := by unfold nmP; decide +kernel
theorem nmPX4 : nmP TX4 6 := by unfold nmP; decide +kernel
theorem nmPX5 : nmP TX5 8 := by unfold nmP; decide +kernel
/-- an entry of a known code stands at a -/
def okC (st : CS) (a k : Nat) : Prop := a ∈ sP st ∧ (sE st a).1 = k
end
