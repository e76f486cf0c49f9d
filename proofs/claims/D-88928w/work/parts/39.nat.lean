section
/-! A NATIVE THROWS: the machine makes the exception over the native's frame (B: all frames beneath the note) -/
section
variable {tb : Tables} {p : Program} {e : Env} {below B : List Frame} {s₀ W : State} {gm : MethodId} {c : Code}
theorem nb_fr (h : At W gm c below) (fs : List Frame) : (W.setFrames fs).frames = fs := by
  obtain ⟨g₀, hg⟩ := Option.isSome_iff_exists.mp h.top
  obtain ⟨r, hr⟩ := State.topJava?_eq_some.mp hg
  exact State.frames_setFrames _ (State.cur_lt_of_frames hr)
theorem nb_go (h : At W gm c below) (fs : List Frame) : (W.setFrames fs).goesOn := ⟨h.running, by simpa using h.runnable, by simpa using h.alone⟩
/-- a constructor's frame over the note over B -/
theorem nb_at (h : At W gm c below) (hB : ∃ mid, B = mid ++ below) (F : Frame) (f : JFrame) {x : Method} {code : Code} (hm : W.vm.method? f.method = some x) (hc : x.code = some code) (hp : W.plainMethod f.method) :
    At ((W.setFrames (F :: B)).pushFrame (.java f)) f.method code below ∧ ((W.setFrames (F :: B)).pushFrame (.java f)).frames = .java f :: F :: B := by
  obtain ⟨mid, hmid⟩ := hB
  have hf := nb_fr h (F :: B)
  have hcur : (W.setFrames (F :: B)).cur < (W.setFrames (F :: B)).threads.size := State.cur_lt_of_frames hf
  refine ⟨At.pushOn _ (nb_go h _) hcur ⟨F :: mid, by rw [hf, hmid]; rfl⟩ hm hc hp, ?_⟩
  rw [show ((W.setFrames (F :: B)).pushFrame (.java f)).frames = .java f :: (W.setFrames (F :: B)).frames from State.frames_setFrames _ hcur, hf]
/-- the note's step, with a text -/
theorem nb_startS {target : State} (h : At W gm c below) (hB : ∃ mid, B = mid ++ below) (Z : StringT) (LZ : Z.Laid W.vm) {cls m : String} {cX : ClassId} {kX : Class} {i : Nat}
    (hsoe : (cls == "java/lang/StackOverflowError") = false) (hoom : (cls == "java/lang/OutOfMemoryError") = false)
    (hfound : W.vm.findClass cls = some cX) (hk : W.vm.classes[cX]? = some kX) (hinit : kX.init = .initialized) (hord : kX.kind = .ordinary) (hhot : e.platform.hotImplicitExceptions = false)
    (hbeyond : e.platform.stackBeyond (((((W.setFrames (.throwNew cls (some m) none :: B))).threads[W.cur]?).map (·.stackBytes)).getD 0) (.throwNew cls (some m) none :: B) = false)
    (hfree : e.platform.vmThrowRoom ≤ e.platform.stackFree (((((W.setFrames (.throwNew cls (some m) none :: B))).threads[W.cur]?).map (·.stackBytes)).getD 0) (.throwNew cls (some m) none :: B))
    (hm : (m == notModelled) = false) (hctor : kX.findMethod "<init>" "(Ljava/lang/String;)V" = some i)
    (hlimit : ¬ (stringBytes (stringToUtf16 m)).size > e.platform.arrayLengthLimit) (hheap : ¬ (stringBytes (stringToUtf16 m)).size * componentBytes .byte > e.platform.maxHeapBytes)
    (hcells : W.heap.size + 3 ≤ e.platform.maxCells) (hslots : W.slotsUsed + (stringBytes (stringToUtf16 m)).size + Z.kS.instanceTypes.size + kX.instanceTypes.size ≤ e.platform.maxSlots)
    (hfitv : W.fitsSlot Z.cS .none Z.fv.slot (.ref W.heap.size) = true) (hfitc : W.fitsSlot Z.cS .none Z.fc.slot (.int (stringCoder (stringToUtf16 m))) = true)
    (hrest : Steps tb e below (doInvoke e ((withThrown W Z m cX kX).setFrames (.thenThrow (W.heap.size + 2) :: B)) [] ⟨cX, i⟩ #[.ref (W.heap.size + 2), .ref (W.heap.size + 1)]).1 target) :
    Steps tb e below (W.setFrames (.throwNew cls (some m) none :: B)) target := by
  obtain ⟨mid, hmid⟩ := hB
  have hf := nb_fr h (.throwNew cls (some m) none :: B)
  refine Steps.head (nb_go h _) ⟨.throwNew cls (some m) none :: mid, by rw [hf, hmid]; rfl, by simp, by simp⟩ ?_
  rw [stepThread_throwNew hf, stepThrowNew_message (s := W.setFrames (.throwNew cls (some m) none :: B)) (c := cX) (k := kX) (i := i) Z LZ hsoe hoom hfound hk hinit hord hhot (by rw [hf]; exact hbeyond) (by rw [hf]; exact hfree) hm hctor hlimit hheap hcells hslots hfitv hfitc]
  have hN : (withThrown (W.setFrames (.throwNew cls (some m) none :: B)) Z m cX kX).setFrames (.thenThrow ((W.setFrames (.throwNew cls (some m) none :: B)).heap.size + 2) :: B) = ((withThrown W Z m cX kX).setFrames (.thenThrow (W.heap.size + 2) :: B)) := by
    rw [withThrown_setFrames, State.setFrames_setFrames]
    rfl
  rw [hN]
  exact hrest
/-- a plain frame -/
abbrev fL (m : MethodId) (L : Array Slot) (pc : Nat) (st : List Value) : JFrame := { method := m, pc := pc, locals := L, stack := st, locked := none }
/-- the constructor's return, and the note's -/
theorem nb_back [Ours tb] {target : State} (h : At W gm c below) (hB : ∃ mid, B = mid ++ below) (hexec : tb.exec = Jvm.exec) {H : State → State} (hH : HeapOnly H) (a : Addr) {m : MethodId} {L : Array Slot} {k : Nat} {x : Method} {code : Code}
    (hm : W.vm.method? m = some x) (hc : x.code = some code) (hp : W.plainMethod m) (hl : x.locks = false) (hd : decode code.code k = .ok (.return_, 1))
    (hrest : Steps tb e below ((H W).setFrames (.throwing a :: B)) target) :
    Steps tb e below ((H ((W.setFrames (.thenThrow a :: B)).pushFrame (.java (fL m L 0 [])))).setTop (fL m L k [])) target := by
  obtain ⟨hI, hfI⟩ := nb_at h hB (.thenThrow a) (fL m L 0 []) hm hc hp
  obtain ⟨mid, hmid⟩ := hB
  have hA : At (H ((W.setFrames (.thenThrow a :: B)).pushFrame (.java (fL m L 0 [])))) m code below := hH.at_ hI
  jvm_step hA [hexec, hd, return_.wp_sem]
  intro acts2
  have hfH : (H ((W.setFrames (.thenThrow a :: B)).pushFrame (.java (fL m L 0 [])))).frames = .java (fL m L 0 []) :: .thenThrow a :: B := by rw [hH.frames]; exact hfI
  rw [ret_to (t := H ((W.setFrames (.thenThrow a :: B)).pushFrame (.java (fL m L 0 [])))) (f := fL m L k []) (f₀ := fL m L 0 []) (below := .thenThrow a :: B) (fs := .thenThrow a :: B) (meth := x) hfH (by rw [hH.vm]; exact hm) hl rfl rfl rfl acts2]
  have hHI : ∀ F, (H ((W.setFrames (.thenThrow a :: B)).pushFrame (.java (fL m L 0 [])))).setFrames F = (H W).setFrames F := by
    intro F
    rw [State.pushFrame, hH.setFrames, hH.setFrames, State.setFrames_setFrames, State.setFrames_setFrames]
  rw [hHI]
  have hAW : At (H W) gm c below := hH.at_ h
  have hf1 := nb_fr hAW (.thenThrow a :: B)
  refine Steps.head (nb_go hAW _) ⟨.thenThrow a :: mid, by rw [hf1, hmid]; rfl, by simp, by simp⟩ ?_
  rw [stepThread_thenThrow hf1]
  show Steps tb e below (((H W).setFrames (.thenThrow a :: B)).setFrames (.throwing a :: B)) target
  rw [State.setFrames_setFrames]
  exact hrest
/-- the constructor with a text, its upper one walked by hsup -/
theorem nb_ctorS [Ours tb] (h : At W gm c below) (hB : ∃ mid, B = mid ++ below) (hexec : tb.exec = Jvm.exec) {H : State → State} (hH : HeapOnly H) (P1 : PassC) (L1 : P1.LinksS e.platform s₀) (hW : s₀.WarmedH W.vm) (a str : Addr)
    (hroom : e.platform.stackFull (((W.setFrames (.thenThrow a :: B)).threads[(W.setFrames (.thenThrow a :: B)).cur]?).getD { frames := [] }) (.thenThrow a :: B) 2 = false)
    (hsup : ∀ vm1, s₀.WarmedH vm1 → At (((W.setVm vm1).setFrames (.thenThrow a :: B)).pushFrame (.java (passJ P1.m a (.ref str) 0 []))) P1.m P1.code below → ∃ vm2, s₀.WarmedH vm2 ∧ ∀ t' : State,
      Steps tb e below ((H (((W.setVm vm2).setFrames (.thenThrow a :: B)).pushFrame (.java (passJ P1.m a (.ref str) 0 [])))).setTop (passJ P1.m a (.ref str) 5 [])) t' →
      Steps tb e below (doInvoke e ((((W.setVm vm1).setFrames (.thenThrow a :: B)).pushFrame (.java (passJ P1.m a (.ref str) 0 []))).setTop (passJ P1.m a (.ref str) 2 [])) [] P1.sup #[.ref a, .ref str]).1 t') :
    ∃ vm', s₀.WarmedH vm' ∧ ∀ target, Steps tb e below ((H (W.setVm vm')).setFrames (.throwing a :: B)) target →
      Steps tb e below (doInvoke e (W.setFrames (.thenThrow a :: B)) [] P1.m #[.ref a, .ref str]).1 target := by
  have hmW := hW.methodAt L1.method
  obtain ⟨hI, hfI⟩ := nb_at h hB (.thenThrow a) (passJ P1.m a (.ref str) 0 []) hmW L1.code (hW.plainAt L1.plain)
  obtain ⟨vm1, hW1, st1⟩ := Steps.invokeInitCold (tb := tb) (s₀ := s₀) (U := ((W.setFrames (.thenThrow a :: B)).pushFrame (.java (passJ P1.m a (.ref str) 0 [])))) (f := passJ P1.m a (.ref str) 2 [.ref str, .ref a]) (args := [.ref str]) (rest := []) (a := a) hI hexec L1.at2 hW L1.links L1.right L1.notHandle L1.cls L1.file L1.pool
    L1.supClass L1.supMethod L1.supName L1.supStatic L1.supAbstract L1.supFound L1.supParams.symm rfl
  obtain ⟨vm2, hW2, st2⟩ := hsup vm1 hW1 (hI.setVm (hW.alike.symm.trans hW1.alike))
  refine ⟨vm2, hW2, fun target hrest => ?_⟩
  rw [(doInvoke_java (s := (W.setFrames (.thenThrow a :: B))) (e := e) (acts := []) (args := #[.ref a, .ref str]) (meth := P1.meth) (code := P1.code) hmW L1.code L1.locks (by rw [L1.locals, nb_fr h]; exact hroom)).1, L1.locals]
  show Steps tb e below ((W.setFrames (.thenThrow a :: B)).pushFrame (.java (passJ P1.m a (.ref str) 0 []))) target
  rw [← State.setTop_self (s := ((W.setFrames (.thenThrow a :: B)).pushFrame (.java (passJ P1.m a (.ref str) 0 [])))) (State.topJava?_of_frames hfI)]
  jvm_step hI [hexec, L1.at0, Value.isRef]
  jvm_step hI [hexec, L1.at1, Value.isRef]
  refine st1 target (st2 target ?_)
  exact nb_back (W := W.setVm vm2) (h.setVm (hW.alike.symm.trans hW2.alike)) hB hexec hH a (hW2.methodAt L1.method) L1.code (hW2.plainAt (U := W.setVm vm2) L1.plain) L1.locks L1.at5 hrest
theorem nb_ctorN [Ours tb] (h : At W gm c below) (hB : ∃ mid, B = mid ++ below) (hexec : tb.exec = Jvm.exec) {H : State → State} (hH : HeapOnly H) (P1 : PassC) (L1 : P1.Links0 e.platform s₀) (hW : s₀.WarmedH W.vm) (a : Addr)
    (hroom : e.platform.stackFull (((W.setFrames (.thenThrow a :: B)).threads[(W.setFrames (.thenThrow a :: B)).cur]?).getD { frames := [] }) (.thenThrow a :: B) 1 = false)
    (hsup : ∀ vm1, s₀.WarmedH vm1 → At (((W.setVm vm1).setFrames (.thenThrow a :: B)).pushFrame (.java (pass0J P1.m a 0 []))) P1.m P1.code below → ∃ vm2, s₀.WarmedH vm2 ∧ ∀ t' : State,
      Steps tb e below ((H (((W.setVm vm2).setFrames (.thenThrow a :: B)).pushFrame (.java (pass0J P1.m a 0 [])))).setTop (pass0J P1.m a 4 [])) t' →
      Steps tb e below (doInvoke e ((((W.setVm vm1).setFrames (.thenThrow a :: B)).pushFrame (.java (pass0J P1.m a 0 []))).setTop (pass0J P1.m a 1 [])) [] P1.sup #[.ref a]).1 t') :
    ∃ vm', s₀.WarmedH vm' ∧ ∀ target, Steps tb e below ((H (W.setVm vm')).setFrames (.throwing a :: B)) target →
      Steps tb e below (doInvoke e (W.setFrames (.thenThrow a :: B)) [] P1.m #[.ref a]).1 target := by
  have hmW := hW.methodAt L1.method
  obtain ⟨hI, hfI⟩ := nb_at h hB (.thenThrow a) (pass0J P1.m a 0 []) hmW L1.code (hW.plainAt L1.plain)
  obtain ⟨vm1, hW1, st1⟩ := Steps.invokeInitCold (tb := tb) (s₀ := s₀) (U := ((W.setFrames (.thenThrow a :: B)).pushFrame (.java (pass0J P1.m a 0 [])))) (f := pass0J P1.m a 1 [.ref a]) (args := []) (rest := []) (a := a) hI hexec L1.at1 hW L1.links L1.right L1.notHandle L1.cls L1.file L1.pool
    L1.supClass L1.supMethod L1.supName L1.supStatic L1.supAbstract L1.supFound L1.supParams.symm rfl
  obtain ⟨vm2, hW2, st2⟩ := hsup vm1 hW1 (hI.setVm (hW.alike.symm.trans hW1.alike))
  refine ⟨vm2, hW2, fun target hrest => ?_⟩
  rw [(doInvoke_java (s := (W.setFrames (.thenThrow a :: B))) (e := e) (acts := []) (args := #[.ref a]) (meth := P1.meth) (code := P1.code) hmW L1.code L1.locks (by rw [L1.locals, nb_fr h]; exact hroom)).1, L1.locals]
  show Steps tb e below ((W.setFrames (.thenThrow a :: B)).pushFrame (.java (pass0J P1.m a 0 []))) target
  rw [← State.setTop_self (s := ((W.setFrames (.thenThrow a :: B)).pushFrame (.java (pass0J P1.m a 0 [])))) (State.topJava?_of_frames hfI)]
  jvm_step hI [hexec, L1.at0, Value.isRef]
  refine st1 target (st2 target ?_)
  exact nb_back (W := W.setVm vm2) (h.setVm (hW.alike.symm.trans hW2.alike)) hB hexec hH a (hW2.methodAt L1.method) L1.code (hW2.plainAt (U := W.setVm vm2) L1.plain) L1.locks L1.at4 hrest
set_option maxHeartbeats 1000000 in
/-- an exception with a text, made over B -/
theorem nb_msg {S : State} (h : At S gm c below) (hB : ∃ mid, B = mid ++ below) (hexec : p.tables.exec = Jvm.exec)
    (T : ThrowableC) (L : T.Links e.platform s₀) (Z : Init0T) (LZ : Z.LaidS T.toThrowableT) (M : MsgC) (LM : M.Links T e.platform s₀) (hW : s₀.WarmedH S.vm) (Zs : StringT) (LZs : Zs.Laid s₀.vm)
    (P1 : PassC) (L1 : P1.LinksS e.platform s₀) (Ps : List PassC) (hL : ∀ P, P ∈ Ps → P.LinksS e.platform s₀) (hlink1 : P1.sup = firstOf (Z.m T.toThrowableT) (Ps.map (·.toPassT))) (hlink : PassesOn (Z.m T.toThrowableT) (Ps.map (·.toPassT)))
    {cls m : String} {kX : Class} (hsoe : (cls == "java/lang/StackOverflowError") = false) (hoom : (cls == "java/lang/OutOfMemoryError") = false)
    (hfound : s₀.vm.findClass cls = some P1.m.cls) (hk : s₀.vm.classes[P1.m.cls]? = some kX) (hinit : kX.init = .initialized) (hord : kX.kind = .ordinary)
    (hctor : kX.findMethod "<init>" "(Ljava/lang/String;)V" = some P1.m.idx) (hhot : e.platform.hotImplicitExceptions = false)
    (hbeyond : e.platform.stackBeyond (((((S.setFrames (.throwNew cls (some m) none :: B))).threads[S.cur]?).map (·.stackBytes)).getD 0) (.throwNew cls (some m) none :: B) = false)
    (hfreeW : e.platform.vmThrowRoom ≤ e.platform.stackFree (((((S.setFrames (.throwNew cls (some m) none :: B))).threads[S.cur]?).map (·.stackBytes)).getD 0) (.throwNew cls (some m) none :: B))
    (hm : (m == notModelled) = false)
    (hlimit : ¬ (stringBytes (stringToUtf16 m)).size > e.platform.arrayLengthLimit) (hheap : ¬ (stringBytes (stringToUtf16 m)).size * componentBytes .byte > e.platform.maxHeapBytes)
    (hcells : S.heap.size + 3 ≤ e.platform.maxCells) (hslots : S.slotsUsed + (stringBytes (stringToUtf16 m)).size + Zs.kS.instanceTypes.size + kX.instanceTypes.size ≤ e.platform.maxSlots)
    (hfitv : s₀.fitsSlot Zs.cS .none Zs.fv.slot (.ref S.heap.size) = true) (hfitc : s₀.fitsSlot Zs.cS .none Zs.fc.slot (.int (stringCoder (stringToUtf16 m))) = true)
    {u0 sen : RefV} {cellS cN : Cell} (ecN : cN = (preparedCellV T.toThrowableT (freshCell P1.m.cls kX) (S.heap.size + 2) u0 sen).withEntry S.cur)
    (hsel0 : selectMethod e.platform s₀.vm P1.m.cls T.fill0 = .method T.fill0)
    (hcellS : S.heap[T.aS]? = some cellS) (hknownS : cellS.vm ≠ .unknown) (hvU : cellS.slots[T.fUnassigned.slot]? = some u0.v)
    (htS : Takes s₀ (freshCell P1.m.cls kX) T.fStack u0.v) (hsize : cN.slots.size = (freshCell P1.m.cls kX).slots.size)
    (hskip : SkipFacts T e.platform s₀ (fun u => u) u0 cN)
    (hnat : u0.v ≠ .null → ∀ u : State, At u T.fill T.codeFill below → s₀.WarmedH u.vm → u.heap[(S.heap.size + 2)]? = some cN →
      e.platform.stackFull (((u.setTop (fillJ T.fill (S.heap.size + 2) 16 [])).threads[(u.setTop (fillJ T.fill (S.heap.size + 2) 16 [])).cur]?).getD { frames := [] }) (u.setTop (fillJ T.fill (S.heap.size + 2) 16 [])).frames (nativeFrameWords "java/lang/Throwable" "fillInStackTrace" 2) = false → ∀ t' : State,
      Steps p.tables e below (u.setTop (fillJ T.fill (S.heap.size + 2) 19 [.ref (S.heap.size + 2)])) t' →
      Steps p.tables e below (doInvoke e (u.setTop (fillJ T.fill (S.heap.size + 2) 16 [])) [] T.fill0 #[.ref (S.heap.size + 2), .int 0]).1 t')
    (hselF : selectMethod e.platform s₀.vm P1.m.cls T.fill = .method T.fill) (hvSen : cellS.slots[T.fSentinel.slot]? = some sen.v)
    (htC : Takes s₀ (freshCell P1.m.cls kX) T.fCause (.ref (S.heap.size + 2))) (htP : Takes s₀ (freshCell P1.m.cls kX) T.fSupp sen.v) (htM : Takes s₀ (freshCell P1.m.cls kX) T.fMsg (.ref (S.heap.size + 1))) (hobjLocals : T.codeObj.maxLocals = 1)
    (hframes : B.length + Ps.length + 4 < (e.platform.stackLimits S.me).1) (hwords : (stackUse B).2 + 13 * Ps.length + 55 ≤ (e.platform.stackLimits S.me).2) :
    ∃ vm', s₀.WarmedH vm' ∧ ∀ target, Steps p.tables e below ((((withThrown S Zs m P1.m.cls kX).setVm vm').setCell (S.heap.size + 2) ((cN.setSlot T.fStack.slot u0.v).left.setSlot T.fMsg.slot (.ref (S.heap.size + 1)))).setFrames (.throwing (S.heap.size + 2) :: B)) target →
      Steps p.tables e below (S.setFrames (.throwNew cls (some m) none :: B)) target := by
  subst ecN
  -- the tables as they are now
  obtain ⟨kX', hk', he'⟩ := hW.alike.2.2 _ _ hk
  have hty : kX'.instanceTypes = kX.instanceTypes := by rw [he']
  have hfresh : freshCell P1.m.cls kX' = freshCell P1.m.cls kX := by
    show ({ cls := P1.m.cls, slots := kX'.instanceTypes.map defaultValue, vm := .none } : Cell) = _
    rw [hty]
  obtain ⟨kS', kB', LZ', htyS⟩ := LZs.warmer hW.alike
  have hsame : withThrown S { Zs with kS := kS', kB := kB' } m P1.m.cls kX' = withThrown S Zs m P1.m.cls kX := by
    rw [← withThrown_warmer S Zs (kB' := kB') htyS m P1.m.cls kX]
    show (withString S _ _ _ _ _ _).pushCell (freshCell P1.m.cls kX') = (withString S _ _ _ _ _ _).pushCell (freshCell P1.m.cls kX)
    rw [hfresh]
  have hfs : S.fitsSlot = s₀.fitsSlot := (show S.fitsSlot = (s₀.setVm S.vm).fitsSlot from rfl).trans (State.fitsSlot_setVm hW.alike)
  obtain ⟨w1, w2, -, w4, w5, -, w7⟩ := withThrown_facts e.platform S Zs m P1.m.cls kX
  have hltS : T.aS < S.heap.size := (Array.getElem?_eq_some_iff.mp hcellS).1
  have hWat : At (withThrown S Zs m P1.m.cls kX) gm c below := by simpa [withThrown, withString] using h
  have hWcur : (withThrown S Zs m P1.m.cls kX).cur = S.cur := by simp [withThrown, withString]
  have hWW : s₀.WarmedH (withThrown S Zs m P1.m.cls kX).vm := by rw [w1]; exact hW
  have hWlim : e.platform.stackLimits (withThrown S Zs m P1.m.cls kX).me = e.platform.stackLimits S.me := w7
  have hWS : (withThrown S Zs m P1.m.cls kX).heap[T.aS]? = some cellS := (w5 _ hltS).trans hcellS
  suffices hs : ∃ vm', s₀.WarmedH vm' ∧ ∀ target, Steps p.tables e below ((((withThrown S Zs m P1.m.cls kX).setVm vm').setCell (S.heap.size + 2) ((((preparedCellV T.toThrowableT (freshCell P1.m.cls kX) (S.heap.size + 2) u0 sen).withEntry S.cur).setSlot T.fStack.slot u0.v).left.setSlot T.fMsg.slot (.ref (S.heap.size + 1)))).setFrames (.throwing (S.heap.size + 2) :: B)) target →
      Steps p.tables e below (doInvoke e ((withThrown S Zs m P1.m.cls kX).setFrames (.thenThrow (S.heap.size + 2) :: B)) [] P1.m #[.ref (S.heap.size + 2), .ref (S.heap.size + 1)]).1 target by
    obtain ⟨vm', hW', st⟩ := hs
    refine ⟨vm', hW', fun target hrest => ?_⟩
    refine nb_startS h hB { Zs with kS := kS', kB := kB' } LZ' (cls := cls) (m := m) (cX := P1.m.cls) (kX := kX') (i := P1.m.idx) hsoe hoom (by rw [hW.alike.findClass]; exact hfound) hk' (by rw [he']; exact hinit) (by rw [he']; exact hord)
      hhot hbeyond hfreeW hm (by rw [he']; exact hctor) hlimit hheap hcells (by show S.slotsUsed + _ + kS'.instanceTypes.size + kX'.instanceTypes.size ≤ _; rw [htyS, hty]; exact hslots) (by rw [hfs]; exact hfitv) (by rw [hfs]; exact hfitc) ?_
    rw [hsame]
    exact st target hrest
  generalize withThrown S Zs m P1.m.cls kX = V at w4 hWat hWcur hWW hWlim hWS ⊢
  have hroom := roomAbove (pl := e.platform) (u := V.setFrames (.thenThrow (S.heap.size + 2) :: B)) (vars := 2) (pushed := [.thenThrow (S.heap.size + 2)]) (base := B) (free := 13 * Ps.length + 55) (lim := e.platform.stackLimits S.me) (nb_fr hWat _) (by rw [State.stackLimits_setFrames]; exact hWlim)
    (by simp only [List.length_cons, List.length_nil]; omega) (by omega) (by rw [stackUse_light _ _ (fun f hf => by cases hf) rfl, stackUse_nil]; show 0 + 2 + 11 ≤ _; omega)
  rw [nb_fr hWat] at hroom
  refine nb_ctorS hWat hB hexec (H := fun u => u.setCell (S.heap.size + 2) ((((preparedCellV T.toThrowableT (freshCell P1.m.cls kX) (S.heap.size + 2) u0 sen).withEntry S.cur).setSlot T.fStack.slot u0.v).left.setSlot T.fMsg.slot (.ref (S.heap.size + 1)))) (heapOnly_id.thenSetCell _ _) P1 L1 hWW (S.heap.size + 2) (S.heap.size + 1) hroom (fun vm1 hW1 hI1 => ?_)
  rw [hlink1]
  obtain ⟨-, hfI⟩ := nb_at (hWat.setVm (hWW.alike.symm.trans hW1.alike)) hB (.thenThrow (S.heap.size + 2)) (passJ P1.m (S.heap.size + 2) (.ref (S.heap.size + 1)) 0 []) (hW1.methodAt L1.method) L1.code (hW1.plainAt (U := V.setVm vm1) L1.plain)
  have hXvm : ∀ w, (((V.setVm vm1).setFrames (.thenThrow (S.heap.size + 2) :: B)).pushFrame (.java (passJ P1.m (S.heap.size + 2) (.ref (S.heap.size + 1)) 0 []))).setVm w = (((V.setVm w).setFrames (.thenThrow (S.heap.size + 2) :: B)).pushFrame (.java (passJ P1.m (S.heap.size + 2) (.ref (S.heap.size + 1)) 0 []))) := fun w => by rw [State.pushFrame_setVm, State.setFrames_setVm, State.setVm_twice]
  have hXc : (((V.setVm vm1).setFrames (.thenThrow (S.heap.size + 2) :: B)).pushFrame (.java (passJ P1.m (S.heap.size + 2) (.ref (S.heap.size + 1)) 0 []))).heap[S.heap.size + 2]? = some (freshCell P1.m.cls kX) := w4
  have hXS : (((V.setVm vm1).setFrames (.thenThrow (S.heap.size + 2) :: B)).pushFrame (.java (passJ P1.m (S.heap.size + 2) (.ref (S.heap.size + 1)) 0 []))).heap[T.aS]? = some cellS := hWS
  have hXcur : (((V.setVm vm1).setFrames (.thenThrow (S.heap.size + 2) :: B)).pushFrame (.java (passJ P1.m (S.heap.size + 2) (.ref (S.heap.size + 1)) 0 []))).cur = S.cur := hWcur
  have hXW : s₀.WarmedH (((V.setVm vm1).setFrames (.thenThrow (S.heap.size + 2) :: B)).pushFrame (.java (passJ P1.m (S.heap.size + 2) (.ref (S.heap.size + 1)) 0 []))).vm := hW1
  have hXlim : e.platform.stackLimits (((V.setVm vm1).setFrames (.thenThrow (S.heap.size + 2) :: B)).pushFrame (.java (passJ P1.m (S.heap.size + 2) (.ref (S.heap.size + 1)) 0 []))).me = e.platform.stackLimits S.me := by rw [State.stackLimits_pushFrame, State.stackLimits_setFrames]; exact hWlim
  suffices hs : ∃ vm2, s₀.WarmedH vm2 ∧ ∀ t' : State, Steps p.tables e below ((((((V.setVm vm1).setFrames (.thenThrow (S.heap.size + 2) :: B)).pushFrame (.java (passJ P1.m (S.heap.size + 2) (.ref (S.heap.size + 1)) 0 []))).setVm vm2).setCell (S.heap.size + 2) ((((preparedCellV T.toThrowableT (freshCell P1.m.cls kX) (S.heap.size + 2) u0 sen).withEntry S.cur).setSlot T.fStack.slot u0.v).left.setSlot T.fMsg.slot (.ref (S.heap.size + 1)))).setTop (passJ P1.m (S.heap.size + 2) (.ref (S.heap.size + 1)) 5 [])) t' →
      Steps p.tables e below (doInvoke e ((((V.setVm vm1).setFrames (.thenThrow (S.heap.size + 2) :: B)).pushFrame (.java (passJ P1.m (S.heap.size + 2) (.ref (S.heap.size + 1)) 0 []))).setTop (passJ P1.m (S.heap.size + 2) (.ref (S.heap.size + 1)) 2 [])) [] (firstOf (Z.m T.toThrowableT) (Ps.map (·.toPassT))) #[.ref (S.heap.size + 2), .ref (S.heap.size + 1)]).1 t' by
    obtain ⟨vm2, hW2, st⟩ := hs
    exact ⟨vm2, hW2, fun t' h' => st t' (by rw [hXvm]; exact h')⟩
  clear hXvm
  have hfI : (((V.setVm vm1).setFrames (.thenThrow (S.heap.size + 2) :: B)).pushFrame (.java (passJ P1.m (S.heap.size + 2) (.ref (S.heap.size + 1)) 0 []))).frames = .java (passJ P1.m (S.heap.size + 2) (.ref (S.heap.size + 1)) 0 []) :: .thenThrow (S.heap.size + 2) :: B := hfI
  generalize (((V.setVm vm1).setFrames (.thenThrow (S.heap.size + 2) :: B)).pushFrame (.java (passJ P1.m (S.heap.size + 2) (.ref (S.heap.size + 1)) 0 []))) = X at hI1 hfI hXc hXS hXcur hXW hXlim ⊢
  exact Steps.initThrowableSColdByV p (V := X) (g := passJ P1.m (S.heap.size + 2) (.ref (S.heap.size + 1)) 2 []) (c := P1.code) (self := S.heap.size + 2) hI1 hexec T L Z LZ M LM hXW hXcur heapOnly_id (fun _ _ => rfl) (fun _ => rfl) (fun u x y => setCell_twice _ _ _ _) (fun _ => Nat.le_refl _) (msg := .ref (S.heap.size + 1)) rfl hXc (by intro k hk'; cases hk') (by intro hk'; cases hk') rfl hsel0 hXS (Nat.ne_of_lt (Nat.lt_of_lt_of_le hltS (Nat.le_add_right _ 2))) hknownS hvU htS
    (fun _ hu => hu) (fun _ hu => hu) rfl rfl rfl hsize hskip hnat hselF hvSen htC htP htM hobjLocals Ps hL hlink (ig := .invokespecial P1.index) (len := 3) [] hXlim
    (by rw [hfI]; simp only [List.length_cons]; omega)
    (by rw [hfI, List.tail_cons, stackUse_java, stackUse_light _ _ (fun f hf => by cases hf) rfl]
        show (stackUse B).2 + (2 + 11 + 2 * 0 + operandWords []) + 13 * Ps.length + 42 ≤ (e.platform.stackLimits S.me).2
        simp only [operandWords, List.foldl_nil]
        omega)
    L1.at2
theorem nb_startN {target : State} (h : At W gm c below) (hB : ∃ mid, B = mid ++ below) {cls : String} {cX : ClassId} {kX : Class} {i : Nat}
    (hsoe : (cls == "java/lang/StackOverflowError") = false) (hoom : (cls == "java/lang/OutOfMemoryError") = false)
    (hfound : W.vm.findClass cls = some cX) (hk : W.vm.classes[cX]? = some kX) (hinit : kX.init = .initialized) (hord : kX.kind = .ordinary) (hhot : e.platform.hotImplicitExceptions = false)
    (hbeyond : e.platform.stackBeyond (((((W.setFrames (.throwNew cls none none :: B))).threads[W.cur]?).map (·.stackBytes)).getD 0) (.throwNew cls none none :: B) = false)
    (hfree : e.platform.vmThrowRoom ≤ e.platform.stackFree (((((W.setFrames (.throwNew cls none none :: B))).threads[W.cur]?).map (·.stackBytes)).getD 0) (.throwNew cls none none :: B))
    (hctor : kX.findMethod "<init>" "()V" = some i) (hcells : W.heap.size + 1 ≤ e.platform.maxCells) (hslots : W.slotsUsed + kX.instanceTypes.size ≤ e.platform.maxSlots)
    (hrest : Steps tb e below (doInvoke e ((W.pushCell (freshCell cX kX)).setFrames (.thenThrow W.heap.size :: B)) [] ⟨cX, i⟩ #[.ref W.heap.size]).1 target) :
    Steps tb e below (W.setFrames (.throwNew cls none none :: B)) target := by
  obtain ⟨mid, hmid⟩ := hB
  have hf := nb_fr h (.throwNew cls none none :: B)
  refine Steps.head (nb_go h _) ⟨.throwNew cls none none :: mid, by rw [hf, hmid]; rfl, by simp, by simp⟩ ?_
  rw [stepThread_throwNew hf, stepThrowNew_plain (s := W.setFrames (.throwNew cls none none :: B)) (c := cX) (k := kX) (i := i) hsoe hoom hfound hk hinit hord hhot (by rw [hf]; exact hbeyond) (by rw [hf]; exact hfree) hctor hcells hslots]
  have hN : ((W.setFrames (.throwNew cls none none :: B)).pushCell (freshCell cX kX)).setFrames (.thenThrow (W.setFrames (.throwNew cls none none :: B)).heap.size :: B) = ((W.pushCell (freshCell cX kX)).setFrames (.thenThrow W.heap.size :: B)) := by
    rw [State.pushCell_setFrames, State.setFrames_setFrames]
    rfl
  rw [hN]
  exact hrest
set_option maxHeartbeats 1000000 in
/-- a NullPointerException, made over B -/
theorem nb_npe {S : State} (h : At S gm c below) (hB : ∃ mid, B = mid ++ below) (hexec : p.tables.exec = Jvm.exec)
    (T : ThrowableC) (L : T.Links e.platform s₀) (Z : Init0T) (LZ : Z.Laid T.toThrowableT) (N : NpeC) (LN : N.Links T e.platform s₀) (hW : s₀.WarmedH S.vm)
    (P1 : PassC) (L1 : P1.Links0 e.platform s₀) (Ps : List PassC) (hL : ∀ P, P ∈ Ps → P.Links0 e.platform s₀) (hlink1 : P1.sup = firstOf (Z.m T.toThrowableT) (Ps.map (·.toPassT))) (hlink : PassesOn (Z.m T.toThrowableT) (Ps.map (·.toPassT)))
    {kX : Class} (hfound : s₀.vm.findClass "java/lang/NullPointerException" = some P1.m.cls) (hk : s₀.vm.classes[P1.m.cls]? = some kX) (hinit : kX.init = .initialized) (hord : kX.kind = .ordinary)
    (hctor : kX.findMethod "<init>" "()V" = some P1.m.idx) (hhot : e.platform.hotImplicitExceptions = false)
    (hbeyond : e.platform.stackBeyond (((((S.setFrames (.throwNew "java/lang/NullPointerException" none none :: B))).threads[S.cur]?).map (·.stackBytes)).getD 0) (.throwNew "java/lang/NullPointerException" none none :: B) = false)
    (hfreeW : e.platform.vmThrowRoom ≤ e.platform.stackFree (((((S.setFrames (.throwNew "java/lang/NullPointerException" none none :: B))).threads[S.cur]?).map (·.stackBytes)).getD 0) (.throwNew "java/lang/NullPointerException" none none :: B))
    (hcells : S.heap.size + 1 ≤ e.platform.maxCells) (hslots : S.slotsUsed + kX.instanceTypes.size ≤ e.platform.maxSlots)
    {u0 sen : RefV} {cellS cN : Cell} (ecN : cN = (npeCell N.toNpeT (preparedCellV T.toThrowableT (freshCell P1.m.cls kX) S.heap.size u0 sen) S.cur).withEntry S.cur)
    (hsel0 : selectMethod e.platform s₀.vm P1.m.cls T.fill0 = .method T.fill0)
    (hcellS : S.heap[T.aS]? = some cellS) (hknownS : cellS.vm ≠ .unknown) (hvU : cellS.slots[T.fUnassigned.slot]? = some u0.v)
    (hv0 : (freshCell P1.m.cls kX).slots[N.fState.slot]? = some (.int 0)) (hneC : T.fCause.slot ≠ N.fState.slot) (hneSt : T.fStack.slot ≠ N.fState.slot) (hneP : T.fSupp.slot ≠ N.fState.slot)
    (htS : Takes s₀ (freshCell P1.m.cls kX) T.fStack u0.v) (ht1 : Takes s₀ (freshCell P1.m.cls kX) N.fState (.int 1)) (hsize : cN.slots.size = (freshCell P1.m.cls kX).slots.size)
    (hskip : SkipFacts T e.platform s₀ (fun u => u) u0 cN)
    (hnat : u0.v ≠ .null → ∀ u : State, At u T.fill T.codeFill below → s₀.WarmedH u.vm → u.heap[S.heap.size]? = some cN →
      e.platform.stackFull (((u.setTop (fillJ T.fill S.heap.size 16 [])).threads[(u.setTop (fillJ T.fill S.heap.size 16 [])).cur]?).getD { frames := [] }) (u.setTop (fillJ T.fill S.heap.size 16 [])).frames (nativeFrameWords "java/lang/Throwable" "fillInStackTrace" 2) = false → ∀ t' : State,
      Steps p.tables e below (u.setTop (fillJ T.fill S.heap.size 19 [.ref S.heap.size])) t' →
      Steps p.tables e below (doInvoke e (u.setTop (fillJ T.fill S.heap.size 16 [])) [] T.fill0 #[.ref S.heap.size, .int 0]).1 t')
    (hselF : selectMethod e.platform s₀.vm P1.m.cls T.fill = .method N.fill) (hvSen : cellS.slots[T.fSentinel.slot]? = some sen.v)
    (htC : Takes s₀ (freshCell P1.m.cls kX) T.fCause (.ref S.heap.size)) (htP : Takes s₀ (freshCell P1.m.cls kX) T.fSupp sen.v) (hobjLocals : T.codeObj.maxLocals = 1)
    (hframes : B.length + Ps.length + 5 < (e.platform.stackLimits S.me).1) (hwords : (stackUse B).2 + 13 * Ps.length + 68 ≤ (e.platform.stackLimits S.me).2) :
    ∃ vm', s₀.WarmedH vm' ∧ ∀ target, Steps p.tables e below ((((S.pushCell (freshCell P1.m.cls kX)).setVm vm').setCell S.heap.size (cN.setSlot T.fStack.slot u0.v).left.left).setFrames (.throwing S.heap.size :: B)) target →
      Steps p.tables e below (S.setFrames (.throwNew "java/lang/NullPointerException" none none :: B)) target := by
  subst ecN
  obtain ⟨kX', hk', he'⟩ := hW.alike.2.2 _ _ hk
  have hty : kX'.instanceTypes = kX.instanceTypes := by rw [he']
  have hfresh : freshCell P1.m.cls kX' = freshCell P1.m.cls kX := by
    show ({ cls := P1.m.cls, slots := kX'.instanceTypes.map defaultValue, vm := .none } : Cell) = _
    rw [hty]
  have hltS : T.aS < S.heap.size := (Array.getElem?_eq_some_iff.mp hcellS).1
  have hWat : At (S.pushCell (freshCell P1.m.cls kX)) gm c below := (At.pushCell_iff _).mpr h
  have hWS : (S.pushCell (freshCell P1.m.cls kX)).heap[T.aS]? = some cellS := by
    rw [← hcellS]
    simp [State.pushCell, Array.getElem?_push, Nat.ne_of_lt hltS]
  have w4 : (S.pushCell (freshCell P1.m.cls kX)).heap[S.heap.size]? = some (freshCell P1.m.cls kX) := State.heap_pushCell_size S (freshCell P1.m.cls kX)
  have hWW : s₀.WarmedH (S.pushCell (freshCell P1.m.cls kX)).vm := hW
  have hWcur : (S.pushCell (freshCell P1.m.cls kX)).cur = S.cur := rfl
  have hWlim : e.platform.stackLimits (S.pushCell (freshCell P1.m.cls kX)).me = e.platform.stackLimits S.me := rfl
  suffices hs : ∃ vm', s₀.WarmedH vm' ∧ ∀ target, Steps p.tables e below ((((S.pushCell (freshCell P1.m.cls kX)).setVm vm').setCell S.heap.size (((npeCell N.toNpeT (preparedCellV T.toThrowableT (freshCell P1.m.cls kX) S.heap.size u0 sen) S.cur).withEntry S.cur).setSlot T.fStack.slot u0.v).left.left).setFrames (.throwing S.heap.size :: B)) target →
      Steps p.tables e below (doInvoke e ((S.pushCell (freshCell P1.m.cls kX)).setFrames (.thenThrow S.heap.size :: B)) [] P1.m #[.ref S.heap.size]).1 target by
    obtain ⟨vm', hW', st⟩ := hs
    refine ⟨vm', hW', fun target hrest => ?_⟩
    refine nb_startN h hB (cls := "java/lang/NullPointerException") (cX := P1.m.cls) (kX := kX') (i := P1.m.idx) (by decide) (by decide) (by rw [hW.alike.findClass]; exact hfound) hk' (by rw [he']; exact hinit) (by rw [he']; exact hord)
      hhot hbeyond hfreeW (by rw [he']; exact hctor) hcells (by rw [hty]; exact hslots) ?_
    rw [hfresh]
    exact st target hrest
  generalize S.pushCell (freshCell P1.m.cls kX) = V at w4 hWat hWcur hWW hWlim hWS ⊢
  have hroom := roomAbove (pl := e.platform) (u := V.setFrames (.thenThrow S.heap.size :: B)) (vars := 1) (pushed := [.thenThrow S.heap.size]) (base := B) (free := 13 * Ps.length + 68) (lim := e.platform.stackLimits S.me) (nb_fr hWat _) (by rw [State.stackLimits_setFrames]; exact hWlim)
    (by simp only [List.length_cons, List.length_nil]; omega) (by omega) (by rw [stackUse_light _ _ (fun f hf => by cases hf) rfl, stackUse_nil]; show 0 + 1 + 11 ≤ _; omega)
  rw [nb_fr hWat] at hroom
  refine nb_ctorN hWat hB hexec (H := fun u => u.setCell S.heap.size (((npeCell N.toNpeT (preparedCellV T.toThrowableT (freshCell P1.m.cls kX) S.heap.size u0 sen) S.cur).withEntry S.cur).setSlot T.fStack.slot u0.v).left.left) (heapOnly_id.thenSetCell _ _) P1 L1 hWW S.heap.size hroom (fun vm1 hW1 hI1 => ?_)
  rw [hlink1]
  obtain ⟨-, hfI⟩ := nb_at (hWat.setVm (hWW.alike.symm.trans hW1.alike)) hB (.thenThrow S.heap.size) (pass0J P1.m S.heap.size 0 []) (hW1.methodAt L1.method) L1.code (hW1.plainAt (U := V.setVm vm1) L1.plain)
  have hXvm : ∀ w, (((V.setVm vm1).setFrames (.thenThrow S.heap.size :: B)).pushFrame (.java (pass0J P1.m S.heap.size 0 []))).setVm w = (((V.setVm w).setFrames (.thenThrow S.heap.size :: B)).pushFrame (.java (pass0J P1.m S.heap.size 0 []))) := fun w => by rw [State.pushFrame_setVm, State.setFrames_setVm, State.setVm_twice]
  have hXc : (((V.setVm vm1).setFrames (.thenThrow S.heap.size :: B)).pushFrame (.java (pass0J P1.m S.heap.size 0 []))).heap[S.heap.size]? = some (freshCell P1.m.cls kX) := w4
  have hXS : (((V.setVm vm1).setFrames (.thenThrow S.heap.size :: B)).pushFrame (.java (pass0J P1.m S.heap.size 0 []))).heap[T.aS]? = some cellS := hWS
  have hXcur : (((V.setVm vm1).setFrames (.thenThrow S.heap.size :: B)).pushFrame (.java (pass0J P1.m S.heap.size 0 []))).cur = S.cur := hWcur
  have hXW : s₀.WarmedH (((V.setVm vm1).setFrames (.thenThrow S.heap.size :: B)).pushFrame (.java (pass0J P1.m S.heap.size 0 []))).vm := hW1
  have hXlim : e.platform.stackLimits (((V.setVm vm1).setFrames (.thenThrow S.heap.size :: B)).pushFrame (.java (pass0J P1.m S.heap.size 0 []))).me = e.platform.stackLimits S.me := by rw [State.stackLimits_pushFrame, State.stackLimits_setFrames]; exact hWlim
  suffices hs : ∃ vm2, s₀.WarmedH vm2 ∧ ∀ t' : State, Steps p.tables e below ((((((V.setVm vm1).setFrames (.thenThrow S.heap.size :: B)).pushFrame (.java (pass0J P1.m S.heap.size 0 []))).setVm vm2).setCell S.heap.size (((npeCell N.toNpeT (preparedCellV T.toThrowableT (freshCell P1.m.cls kX) S.heap.size u0 sen) S.cur).withEntry S.cur).setSlot T.fStack.slot u0.v).left.left).setTop (pass0J P1.m S.heap.size 4 [])) t' →
      Steps p.tables e below (doInvoke e ((((V.setVm vm1).setFrames (.thenThrow S.heap.size :: B)).pushFrame (.java (pass0J P1.m S.heap.size 0 []))).setTop (pass0J P1.m S.heap.size 1 [])) [] (firstOf (Z.m T.toThrowableT) (Ps.map (·.toPassT))) #[.ref S.heap.size]).1 t' by
    obtain ⟨vm2, hW2, st⟩ := hs
    exact ⟨vm2, hW2, fun t' h' => st t' (by rw [hXvm]; exact h')⟩
  clear hXvm
  have hfI : (((V.setVm vm1).setFrames (.thenThrow S.heap.size :: B)).pushFrame (.java (pass0J P1.m S.heap.size 0 []))).frames = .java (pass0J P1.m S.heap.size 0 []) :: .thenThrow S.heap.size :: B := hfI
  generalize (((V.setVm vm1).setFrames (.thenThrow S.heap.size :: B)).pushFrame (.java (pass0J P1.m S.heap.size 0 []))) = X at hI1 hfI hXc hXS hXcur hXW hXlim ⊢
  exact Steps.initNpe0ColdByV p (V := X) (g := pass0J P1.m S.heap.size 1 []) (c := P1.code) (self := S.heap.size) hI1 hexec T L Z LZ N LN hXW hXcur heapOnly_id (fun _ _ => rfl) (fun _ => rfl) (fun u x y => setCell_twice _ _ _ _) (fun _ => Nat.le_refl _) hXc (by intro k hk'; cases hk') (by intro hk'; cases hk') rfl hk hsel0 hXS (Nat.ne_of_lt hltS) hknownS hvU hv0 hneC hneSt hneP htS ht1
    (fun _ hu => hu) (fun _ hu => hu) rfl rfl rfl hsize hskip hnat hselF hvSen htC htP hobjLocals Ps hL hlink (ig := .invokespecial P1.index) (len := 3) [] hXlim
    (by rw [hfI]; simp only [List.length_cons]; omega)
    (by rw [hfI, List.tail_cons, stackUse_java, stackUse_light _ _ (fun f hf => by cases hf) rfl]
        show (stackUse B).2 + (1 + 11 + 2 * 0 + operandWords []) + 13 * Ps.length + 55 ≤ (e.platform.stackLimits S.me).2
        simp only [operandWords, List.foldl_nil]
        omega)
    L1.at1
/-- the exception leaves the native -/
theorem nb_unwind {target : State} (h : At W gm c below) (hB : ∃ mid, B = mid ++ below) {nf : NFrame} (ha : nf.awaiting = false) (hl : nf.locked = none) {a : Addr} (hrest : Steps tb e below (W.setFrames (.throwing a :: B)) target) : Steps tb e below (W.setFrames (.throwing a :: .native nf :: B)) target := by
  obtain ⟨mid, hmid⟩ := hB
  have hf := nb_fr h (.throwing a :: .native nf :: B)
  refine Steps.head (nb_go h _) ⟨.throwing a :: .native nf :: mid, by rw [hf, hmid]; rfl, by simp, by simp⟩ ?_
  rw [stepThread_throwing hf]
  simp only [stepThrowing, ha, hl, vmDo, leaveIfLocked]
  show Steps tb e below ((W.setFrames (.throwing a :: .native nf :: B)).setFrames (.throwing a :: B)) target
  rw [State.setFrames_setFrames]
  exact hrest
end
section
variable {p : Program} {l : Launch} {e : Env} {R : Room} {s : State} {m : MethodId} {args : Array Value} {below B : List Frame} {meth : Method} {c : Code} {T' : State} {locs : List Loc} {cells slots : Nat}
/-- the machine may throw: a note over a native's frame -/
theorem nb_may (X : Stand p l e R s m args below meth c T' locs cells slots) {g : JFrame} (hsize : g.locals.size = c.maxLocals) (note : Frame) (hnote : ∀ f, note ≠ .java f) (hw : note.words = 0) (hB : (stackUse B).2 = (stackUse (.java g :: below)).2)
    (hK : 2 * g.monitorRoom + (g.stack.map fun v => v.category).sum + 10240 ≤ R.locals) :
    e.platform.stackBeyond (((((T'.setFrames (note :: B))).threads[T'.cur]?).map (·.stackBytes)).getD 0) (note :: B) = false ∧ e.platform.vmThrowRoom ≤ e.platform.stackFree (((((T'.setFrames (note :: B))).threads[T'.cur]?).map (·.stackBytes)).getD 0) (note :: B) := by
  have hb : ((((T'.setFrames (note :: B)).threads[T'.cur]?).map (·.stackBytes)).getD 0) = T'.me.stackBytes := by
    rw [← State.stackBytes_setFrames T' (note :: B)]
    exact State.stackBytes_me (T'.setFrames (note :: B))
  have hA := X.stackAbove hsize hK
  rw [X.tail] at hA
  have hlimit : (e.platform.stackLimits T'.me).2 = (e.platform.limitsFor T'.me.stackBytes).2 := rfl
  rw [hb, Launch.admits_vmThrowRoom X.admits]
  unfold Platform.stackBeyond Platform.stackFree
  rw [stackUse_light _ _ hnote hw, hB]
  refine ⟨decide_eq_false (by omega), by omega⟩
set_option maxHeartbeats 1000000 in
/-- the same over a native's frame, which it leaves -/
theorem x_thrownB (X : Stand p l e R s m args below meth c T' locs cells slots) (hexec : p.tables.exec = Jvm.exec) (htr : e.platform.stackTraces = false) {cls : String} {names : List String} {text : String}
    (hcls : Bundle.fit cls = true) (hnames : ∀ n ∈ names, Bundle.fit n = true) (hsoe : (cls == "java/lang/StackOverflowError") = false) (hoom : (cls == "java/lang/OutOfMemoryError") = false)
    (h : ∀ a ∈ Bundle.messageArmAtoms cls names, a.before args s = true) (hlocs : ∀ x ∈ locs, ∀ cell, s.heap[x.base]? = some cell → cell.vm.isStatics = false)
    (htext : (text == notModelled) = false) (hlimit : ¬ (stringBytes (stringToUtf16 text)).size > e.platform.arrayLengthLimit) (hheap : ¬ (stringBytes (stringToUtf16 text)).size * componentBytes .byte > e.platform.maxHeapBytes)
    {g : JFrame} (hg : g.method = m) (hsize : g.locals.size = c.maxLocals)
    {nf : NFrame} (hnw : nf.words = 0) (hna : nf.awaiting = false) (hnl : nf.locked = none) (hRframes : names.length + 5 < R.frames) (hRlocals : 2 * g.monitorRoom + (g.stack.map fun v => v.category).sum + 10240 ≤ R.locals) (hshort : 13 * names.length + 55 ≤ 10240)
    (hRcells : cells + 3 ≤ R.cells) (hRslots : slots + ((stringBytes (stringToUtf16 text)).size + 4 + 6) ≤ R.slots) :
    ∃ (U : State) (locs' : List Loc) (n : Nat) (ce : Cell), n ≤ slots + ((stringBytes (stringToUtf16 text)).size + 4 + 6) ∧ Stand p l e R s m args below meth c U locs' (cells + 3) n ∧ (∀ y ∈ locs', y ∈ locs ∨ y.base = T'.heap.size + 2) ∧ U.heap.size = T'.heap.size + 3 ∧
      (∀ q : Nat, q < T'.heap.size → U.heap[q]? = T'.heap[q]?) ∧ U.heap[T'.heap.size + 2]? = some ce ∧ s.vm.findClass cls = some ce.cls ∧ ce.vm = .none ∧ s.vm.assignable ce.cls ce.cls = true ∧ (∃ kX : Class, s.vm.classes[ce.cls]? = some kX) ∧
      ∀ target, Steps p.tables e below ((U.setTop g).pushFrame (.throwing (T'.heap.size + 2))) target → Steps p.tables e below (T'.setFrames (.throwNew cls (some text) none :: .native nf :: .java g :: below)) target := by
  have howns : e.platform.frameOwnsMonitors = true := by rw [X.admits.platform]
  have hfin : e.platform.finalization = false := by rw [X.admits.platform]
  have hpl : e.platform.magicAccessors = ({} : Platform).magicAccessors := by rw [X.admits.platform]
  have a : ∀ x, x ∈ Bundle.messageArmAtoms cls names → x.holds args s none s [] = true := fun x hx => h x hx
  obtain ⟨T, Z0, L, -, Y⟩ := ThrowableC.of_atoms (args := args) howns hfin hpl (fun x hx => h x (by simp [Bundle.messageArmAtoms, hx]))
  obtain ⟨Z, M, LZ, LM, hnZ⟩ := Init0T.ofS_atoms (args := args) hpl L Y (fun x hx => h x (by simp [Bundle.messageArmAtoms, hx]))
  obtain ⟨P1, Ps, hlen, L1, hL, hP1m, hlink1, hlink⟩ := Bundle.chainS (args := args) hpl hnZ names cls hcls hnames (fun x hx => h x (by simp [Bundle.messageArmAtoms, hx]))
  obtain ⟨Zs, LZs, hn4, hfitv, hfitc⟩ := StringT.of_atoms (args := args) (fun x hx => h x (by simp [Bundle.messageArmAtoms, hx]))
  have hfound : s.vm.findClass cls = some P1.m.cls := findClass_of_methodNamed hP1m
  obtain ⟨c1, kX, hc1, hk, hord, -, -, hn6⟩ := Cond.instantiable_spec (a (.instantiable cls 6) (by simp [Bundle.messageArmAtoms]))
  cases Option.some.inj (hc1.symm.trans hfound)
  have hinit := Cond.initialized_spec hfound hk (a (.initialized cls) (by simp [Bundle.messageArmAtoms]))
  have hctor : kX.findMethod "<init>" "(Ljava/lang/String;)V" = some P1.m.idx := findMethod_of_methodNamed hP1m hk
  have hsel0 : selectMethod e.platform s.vm P1.m.cls T.fill0 = .method T.fill0 := by
    obtain ⟨c2, r2, m2, q1, q2, q3, q4, -⟩ := Cond.selects_spec (a (.selects cls Bundle.tFill0 Bundle.tFill0) (by simp [Bundle.messageArmAtoms]))
    cases Option.some.inj (q1.symm.trans hfound)
    cases Option.some.inj (q2.symm.trans (State.methodFound?_of_named Y.fill0 (by decide)))
    cases Option.some.inj (q3.symm.trans Y.fill0)
    rw [Launch.admits_selectMethod X.admits]; exact q4
  have hselF : selectMethod e.platform s.vm P1.m.cls T.fill = .method T.fill := by
    obtain ⟨c2, r2, m2, q1, q2, q3, q4, -⟩ := Cond.selects_spec (a (.selects cls Bundle.tFill Bundle.tFill) (by simp [Bundle.messageArmAtoms]))
    cases Option.some.inj (q1.symm.trans hfound)
    cases Option.some.inj (q2.symm.trans (State.methodFound?_of_named Y.fill (by decide)))
    cases Option.some.inj (q3.symm.trans Y.fill)
    rw [Launch.admits_selectMethod X.admits]; exact q4
  -- the class's two statics
  obtain ⟨cellS0, hcS0, hiss⟩ := Y.statics
  obtain ⟨u0, hu0⟩ := Cond.staticRefV Y.unassigned L.unassignedStatic L.statics hcS0 hiss (a (.isRef (.static Bundle.tN "UNASSIGNED_STACK" Bundle.steD)) (by simp [Bundle.messageArmAtoms]))
  obtain ⟨sen, hsen⟩ := Cond.staticRefV Y.sentinel L.sentinelStatic L.statics hcS0 hiss (a (.isRef (.static Bundle.tN "SUPPRESSED_SENTINEL" Bundle.listD)) (by simp [Bundle.messageArmAtoms]))
  obtain ⟨cellS, hcS', heS, -, hkeep⟩ := X.same.2.2.2.2.2 T.aS cellS0 hcS0
  have hcellS : T'.heap[T.aS]? = some cellS := hcS'
  have hout' : ∀ i, (⟨T.aS, i⟩ : Loc) ∉ locs := fun i hmem => by
    have := hlocs _ hmem cellS0 hcS0
    rw [hiss] at this; cases this
  have hknownS : cellS.vm ≠ .unknown := by
    rw [heS]; intro hu
    rw [show cellS0.vm = .unknown from hu] at hiss
    cases hiss
  -- the fields that the constructors write
  obtain ⟨ci198, i198, fB, hk198, hg198, ha198, hsB, -, hnB, htB, hffB⟩ := Cond.ownField (t := .object "java/lang/Object") Y.found L.cls (by decide +kernel) (a (.fieldLink Bundle.tN 198 Bundle.tN "backtrace" "Ljava/lang/Object;") (by simp [Bundle.messageArmAtoms])) (a (.lays Bundle.tN Bundle.tN "backtrace" "Ljava/lang/Object;") (by simp [Bundle.messageArmAtoms])) e.platform hpl
  obtain ⟨iM, hffM⟩ := Y.msg
  obtain ⟨tyC, dC, hdC, hdnC⟩ := Cond.laysAt hfound hk Y.cause (a (.lays cls Bundle.tN "cause" "Ljava/lang/Throwable;") (by simp [Bundle.messageArmAtoms]))
  obtain ⟨tyS, dS, hdS, hdnS⟩ := Cond.laysAt hfound hk Y.stack (a (.lays cls Bundle.tN "stackTrace" Bundle.steD) (by simp [Bundle.messageArmAtoms]))
  obtain ⟨tyP, dP, hdP, hdnP⟩ := Cond.laysAt hfound hk Y.supp (a (.lays cls Bundle.tN "suppressedExceptions" Bundle.listD) (by simp [Bundle.messageArmAtoms]))
  obtain ⟨tyM, dM, hdM, hdnM⟩ := Cond.laysAt hfound hk hffM (a (.lays cls Bundle.tN "detailMessage" "Ljava/lang/String;") (by simp [Bundle.messageArmAtoms]))
  obtain ⟨tyB, dB, hdB, hdnB⟩ := Cond.laysAt hfound hk hffB (a (.lays cls Bundle.tN "backtrace" "Ljava/lang/Object;") (by simp [Bundle.messageArmAtoms]))
  have bC := Cond.laysApart hdB hdC hdnB hdnC (by rw [hnB, Y.causeName]; decide)
  have bS := Cond.laysApart hdB hdS hdnB hdnS (by rw [hnB, Y.stackName]; decide)
  have bP := Cond.laysApart hdB hdP hdnB hdnP (by rw [hnB, Y.suppName]; decide)
  have hskip : SkipFacts T e.platform s (fun u => u) u0 ((preparedCellV T.toThrowableT (freshCell P1.m.cls kX) (T'.heap.size + 2) u0 sen).withEntry T'.cur) :=
    ⟨{ ci198 := ci198, i198 := i198, fBack := fB }, ⟨hk198, hg198, ha198, hsB⟩, by
      have := fresh_default (c := P1.m.cls) tyB
      rw [htB] at this
      simpa [preparedCellV, Cell.setSlot, Cell.withEntry, Array.getElem?_setIfInBounds, bC, bS, bP, bC.symm, bS.symm, bP.symm, defaultValue] using this, fun _ _ => rfl⟩
  -- the run
  have hat : At T' g.method c below := by rw [hg]; exact X.here
  have hBu : (stackUse (.native nf :: .java g :: below)).2 = (stackUse (.java g :: below)).2 := by rw [stackUse_light (.native nf) _ (fun f hf => by cases hf) (show (Frame.native nf).words = 0 from hnw)]
  obtain ⟨hbeyond, hfreeW⟩ := nb_may (B := .native nf :: .java g :: below) X hsize (.throwNew cls (some text) none) (fun f hf => by cases hf) rfl hBu hRlocals
  obtain ⟨g₁, hfrT⟩ := X.frames_eq
  have hlenT : T'.frames.length = below.length + 1 := by rw [hfrT]; rfl
  have hfr' : (Frame.native nf :: .java g :: below).length + Ps.length + 4 < (e.platform.stackLimits T'.me).1 := by
    have := X.framesAbove hRframes
    simp only [List.length_cons]
    rw [hlen]; omega
  have hwd' : (stackUse (.native nf :: .java g :: below)).2 + 13 * Ps.length + 55 ≤ (e.platform.stackLimits T'.me).2 := by
    have := X.stackAbove hsize (K := 13 * Ps.length + 55) (by rw [hlen]; omega)
    rw [X.tail] at this
    rw [hBu]; omega
  have hslots : T'.slotsUsed + (stringBytes (stringToUtf16 text)).size + Zs.kS.instanceTypes.size + kX.instanceTypes.size ≤ e.platform.maxSlots := by have := X.slotsAbove hRslots; rw [hn4, hn6]; omega
  obtain ⟨vm', hW', stp⟩ := nb_msg (p := p) (s₀ := s) (S := T') (B := .native nf :: .java g :: below) hat ⟨[.native nf, .java g], rfl⟩ hexec T L Z LZ M LM X.warmed Zs LZs P1 L1 Ps hL hlink1 hlink hsoe hoom hfound hk hinit hord hctor
    (Launch.admits_hotImplicitExceptions X.admits) hbeyond hfreeW htext hlimit hheap (X.cellsAbove hRcells) hslots (hfitv _) (hfitc _)
    (cN := ((preparedCellV T.toThrowableT (freshCell P1.m.cls kX) (T'.heap.size + 2) u0 sen).withEntry T'.cur)) rfl
    hsel0 hcellS hknownS (by rw [hkeep _ (hout' _)]; exact hu0) (Takes.of_laid hk hord tyS (by rw [Y.stackType]; exact fits_refV_array _ u0)) (by simp [preparedCellV, Cell.setSlot, Cell.withEntry]) hskip
    (fun _ _ hA hW _ hroom _ hrest => L.nativeOff p htr hA hW hroom hrest) hselF (by rw [hkeep _ (hout' _)]; exact hsen) (Takes.of_laid hk hord tyC (by rw [Y.causeType]; rfl)) (Takes.of_laid hk hord tyP (by rw [Y.suppType]; exact fits_refV_object _ sen)) (Takes.of_laid hk hord tyM (by rw [Y.msgType]; rfl)) Y.objLocals hfr' hwd'
  rw [plainBareV_eq T.toThrowableT (T'.heap.size + 2) u0 sen (.ref (T'.heap.size + 1)) T'.cur rfl rfl] at stp
  obtain ⟨-, -, w3, w4, w5, -, -⟩ := withThrown_facts e.platform T' Zs text P1.m.cls kX
  have b1 : (bytesOf Zs.cB (stringToUtf16 text)).slots.size = (stringBytes (stringToUtf16 text)).size := by
    rw [(Cell.writeAll_facts _ _).2.2]; simp [bytes0]
  have b2 : (stringAt Zs.cS Zs.kS Zs.fv Zs.fc (stringToUtf16 text) T'.heap.size).slots.size = 4 := by simp [string0, Cell.setSlot, hn4]
  have b3 : (freshCell P1.m.cls kX).slots.size = 6 := by simp [hn6]
  have X3 := ((X.pushed (bytesOf Zs.cB (stringToUtf16 text))).pushed (stringAt Zs.cS Zs.kS Zs.fv Zs.fc (stringToUtf16 text) T'.heap.size)).pushed (freshCell P1.m.cls kX)
  rw [← withString_eq] at X3
  have X4 := X3.noted hW'
  have hlt : (T'.heap.size + 2) < ((withThrown T' Zs text P1.m.cls kX).setVm vm').heap.size := by show _ < (withThrown T' Zs text P1.m.cls kX).heap.size; rw [w3]; omega
  have hcell : ((withThrown T' Zs text P1.m.cls kX).setVm vm').heap[(T'.heap.size + 2)]? = some (freshCell P1.m.cls kX) := w4
  have X5 := ((((X4.stored hcell T.fCause.slot (.ref (T'.heap.size + 2))).storedAgain hlt T.fStack.slot u0.v).storedAgain hlt T.fSupp.slot sen.v).storedAgain hlt T.fStack.slot u0.v).storedAgain hlt T.fMsg.slot (.ref (T'.heap.size + 1))
  obtain ⟨c3, c4, hc3, hc4, hasg⟩ := Cond.castable_spec (a (.castable cls cls) (by simp [Bundle.messageArmAtoms]))
  cases Option.some.inj (hc3.symm.trans hfound)
  cases Option.some.inj (hc4.symm.trans hfound)
  refine ⟨_, _, _, plainBareV T.toThrowableT (freshCell P1.m.cls kX) (T'.heap.size + 2) u0 sen (.ref (T'.heap.size + 1)), ?_, X5, fun y hy => ?_, ?_, fun q hq => ?_, heapAt_setCell_self _ hlt, hfound, rfl, hasg, ⟨kX, hk⟩, fun target ht => stp target ?_⟩
  · rw [b1, b2, b3]; omega
  · simp only [List.append_assoc, List.cons_append, List.nil_append] at hy
    rcases List.mem_append.mp hy with h1 | h1
    · exact Or.inl h1
    · refine Or.inr ?_
      simp only [List.mem_cons, List.not_mem_nil, or_false] at h1
      rcases h1 with rfl | rfl | rfl | rfl | rfl <;> rfl
  · rw [size_setCell]
    exact w3
  · rw [State.heap_setCell_other (by omega : T'.heap.size + 2 ≠ q)]
    exact w5 q hq
  · refine nb_unwind X5.here ⟨[.java g], rfl⟩ hna hnl ?_
    obtain ⟨g₁, hfrM⟩ := X5.frames_eq
    rw [State.pushFrame, State.frames_setTop _ hfrM, State.setTop_of_frames _ hfrM, State.setFrames_setFrames] at ht
    exact ht
set_option maxHeartbeats 1000000 in
theorem x_thrownNB (X : Stand p l e R s m args below meth c T' locs cells slots) (hexec : p.tables.exec = Jvm.exec) (htr : e.platform.stackTraces = false) {n : Nat} (h : ∀ a ∈ Bundle.npeArmAtoms n, a.before args s = true)
    (hlocs : ∀ x ∈ locs, ∀ cell, s.heap[x.base]? = some cell → cell.vm.isStatics = false) {g : JFrame} (hg : g.method = m) (hsize : g.locals.size = c.maxLocals)
    {nf : NFrame} (hnw : nf.words = 0) (hna : nf.awaiting = false) (hnl : nf.locked = none) (hRframes : 8 < R.frames) (hRlocals : 2 * g.monitorRoom + (g.stack.map fun v => v.category).sum + 10240 ≤ R.locals) (hRcells : cells + 1 ≤ R.cells) (hRslots : slots + n ≤ R.slots) :
    ∃ (U : State) (locs' : List Loc) (ce : Cell), Stand p l e R s m args below meth c U locs' (cells + 1) (slots + n) ∧ (∀ y ∈ locs', y ∈ locs ∨ y.base = T'.heap.size) ∧ U.heap.size = T'.heap.size + 1 ∧
      (∀ q : Nat, q < T'.heap.size → U.heap[q]? = T'.heap[q]?) ∧ U.heap[T'.heap.size]? = some ce ∧ s.vm.findClass "java/lang/NullPointerException" = some ce.cls ∧ ce.vm = .none ∧ s.vm.assignable ce.cls ce.cls = true ∧ (∃ kX : Class, s.vm.classes[ce.cls]? = some kX) ∧
      ∀ target, Steps p.tables e below ((U.setTop g).pushFrame (.throwing T'.heap.size)) target → Steps p.tables e below (T'.setFrames (.throwNew "java/lang/NullPointerException" none none :: .native nf :: .java g :: below)) target := by
  have howns : e.platform.frameOwnsMonitors = true := by rw [X.admits.platform]
  have hfin : e.platform.finalization = false := by rw [X.admits.platform]
  have hpl : e.platform.magicAccessors = ({} : Platform).magicAccessors := by rw [X.admits.platform]
  have hpl2 : e.platform.arrayCloneIsPublic = true := by rw [X.admits.platform]
  have a : ∀ x, x ∈ Bundle.npeArmAtoms n → x.holds args s none s [] = true := fun x hx => h x hx
  obtain ⟨T, Z, L, LZ, Y⟩ := ThrowableC.of_atoms (args := args) howns hfin hpl (fun x hx => h x (by simp [Bundle.npeArmAtoms, hx]))
  obtain ⟨N, LN, hcN, hnNF, hordN, hffS⟩ := NpeC.of_atoms (args := args) hpl hpl2 L Y (fun x hx => h x (by simp [Bundle.npeArmAtoms, hx]))
  obtain ⟨P1, L1, hP1m, hP1s⟩ := PassC.of_atoms (args := args) (s := s) hpl (X := Bundle.nN) (Y := Bundle.rN) (by decide) (by decide) LibCode.NullPointerException.Init0.at_0 LibCode.NullPointerException.Init0.at_1 LibCode.NullPointerException.Init0.at_4 (fun x hx => h x (by simp [Bundle.npeArmAtoms, hx]))
  obtain ⟨PR, LR, hPRm, hPRs⟩ := PassC.of_atoms (args := args) (s := s) hpl (X := Bundle.rN) (Y := Bundle.eN) (by decide) (by decide) LibCode.RuntimeException.Init0.at_0 LibCode.RuntimeException.Init0.at_1 LibCode.RuntimeException.Init0.at_4 (fun x hx => h x (by simp [Bundle.npeArmAtoms, hx]))
  obtain ⟨PE, LEx, hPEm, hPEs⟩ := PassC.of_atoms (args := args) (s := s) hpl (X := Bundle.eN) (Y := Bundle.tN) (by decide) (by decide) LibCode.Exception.Init0.at_0 LibCode.Exception.Init0.at_1 LibCode.Exception.Init0.at_4 (fun x hx => h x (by simp [Bundle.npeArmAtoms, hx]))
  have hfound : s.vm.findClass Bundle.nN = some P1.m.cls := findClass_of_methodNamed hP1m
  have ecls : N.cN = P1.m.cls := Option.some.inj (hcN.symm.trans hfound)
  have hk : s.vm.classes[P1.m.cls]? = some N.kN := by rw [← ecls]; exact LN.cls
  have hinit := Cond.initialized_spec hfound hk (a (.initialized Bundle.nN) (by simp [Bundle.npeArmAtoms]))
  have hctor : N.kN.findMethod "<init>" "()V" = some P1.m.idx := findMethod_of_methodNamed hP1m hk
  obtain ⟨c1, k1, hc1, hk1, -, -, -, hn⟩ := Cond.instantiable_spec (a (.instantiable Bundle.nN n) (by simp [Bundle.npeArmAtoms]))
  cases Option.some.inj (hc1.symm.trans hfound)
  cases Option.some.inj (hk1.symm.trans hk)
  have hlink1 : P1.sup = PR.m := Option.some.inj (hP1s.symm.trans hPRm)
  have hlinkR : PR.sup = PE.m := Option.some.inj (hPRs.symm.trans hPEm)
  have hlinkE : PE.sup = Z.m T.toThrowableT := Option.some.inj (hPEs.symm.trans Y.init0)
  have hsel0 : selectMethod e.platform s.vm P1.m.cls T.fill0 = .method T.fill0 := by
    obtain ⟨c2, r2, m2, q1, q2, q3, q4, -⟩ := Cond.selects_spec (a (.selects Bundle.nN Bundle.tFill0 Bundle.tFill0) (by simp [Bundle.npeArmAtoms]))
    cases Option.some.inj (q1.symm.trans hfound)
    cases Option.some.inj (q2.symm.trans (State.methodFound?_of_named Y.fill0 (by decide)))
    cases Option.some.inj (q3.symm.trans Y.fill0)
    rw [Launch.admits_selectMethod X.admits]; exact q4
  have hselF : selectMethod e.platform s.vm P1.m.cls T.fill = .method N.fill := by
    obtain ⟨c2, r2, m2, q1, q2, q3, q4, -⟩ := Cond.selects_spec (a (.selects Bundle.nN Bundle.tFill Bundle.nFill) (by simp [Bundle.npeArmAtoms]))
    cases Option.some.inj (q1.symm.trans hfound)
    cases Option.some.inj (q2.symm.trans (State.methodFound?_of_named Y.fill (by decide)))
    cases Option.some.inj (q3.symm.trans hnNF)
    rw [Launch.admits_selectMethod X.admits]; exact q4
  obtain ⟨cellS0, hcS0, hiss⟩ := Y.statics
  obtain ⟨u0, hu0⟩ := Cond.staticRefV Y.unassigned L.unassignedStatic L.statics hcS0 hiss (a (.isRef (.static Bundle.tN "UNASSIGNED_STACK" Bundle.steD)) (by simp [Bundle.npeArmAtoms]))
  obtain ⟨sen, hsen⟩ := Cond.staticRefV Y.sentinel L.sentinelStatic L.statics hcS0 hiss (a (.isRef (.static Bundle.tN "SUPPRESSED_SENTINEL" Bundle.listD)) (by simp [Bundle.npeArmAtoms]))
  obtain ⟨ci198, i198, fB, hk198, hg198, ha198, hsB, -, hnB, htB, hffB⟩ := Cond.ownField (t := .object "java/lang/Object") Y.found L.cls (by decide +kernel) (a (.fieldLink Bundle.tN 198 Bundle.tN "backtrace" Bundle.objD) (by simp [Bundle.npeArmAtoms])) (a (.lays Bundle.tN Bundle.tN "backtrace" Bundle.objD) (by simp [Bundle.npeArmAtoms])) e.platform hpl
  obtain ⟨cellS, hcS', heS, -, hkeep⟩ := X.same.2.2.2.2.2 T.aS cellS0 hcS0
  have hcellS : T'.heap[T.aS]? = some cellS := hcS'
  have hout' : ∀ i, (⟨T.aS, i⟩ : Loc) ∉ locs := fun i hmem => by
    have := hlocs _ hmem cellS0 hcS0
    rw [hiss] at this; cases this
  have hknownS : cellS.vm ≠ .unknown := by
    rw [heS]; intro hu
    rw [show cellS0.vm = .unknown from hu] at hiss
    cases hiss
  obtain ⟨tyC, dC, hdC, hdnC⟩ := Cond.laysAt hfound hk Y.cause (a (.lays Bundle.nN Bundle.tN "cause" "Ljava/lang/Throwable;") (by simp [Bundle.npeArmAtoms]))
  obtain ⟨tyS, dS, hdS, hdnS⟩ := Cond.laysAt hfound hk Y.stack (a (.lays Bundle.nN Bundle.tN "stackTrace" Bundle.steD) (by simp [Bundle.npeArmAtoms]))
  obtain ⟨tyP, dP, hdP, hdnP⟩ := Cond.laysAt hfound hk Y.supp (a (.lays Bundle.nN Bundle.tN "suppressedExceptions" Bundle.listD) (by simp [Bundle.npeArmAtoms]))
  obtain ⟨tyX, dX, hdX, hdnX⟩ := Cond.laysAt hfound hk hffS (a (.lays Bundle.nN Bundle.nN "extendedMessageState" "I") (by simp [Bundle.npeArmAtoms, Bundle.npeAtoms]))
  have hnX : N.fState.name = "extendedMessageState" := (State.fieldFound?_type hffS (t := .int) (by decide +kernel)).1
  obtain ⟨tyB, dB, hdB, hdnB⟩ := Cond.laysAt hfound hk hffB (a (.lays Bundle.nN Bundle.tN "backtrace" Bundle.objD) (by simp [Bundle.npeArmAtoms]))
  have bC := Cond.laysApart hdB hdC hdnB hdnC (by rw [hnB, Y.causeName]; decide)
  have bS := Cond.laysApart hdB hdS hdnB hdnS (by rw [hnB, Y.stackName]; decide)
  have bP := Cond.laysApart hdB hdP hdnB hdnP (by rw [hnB, Y.suppName]; decide)
  have bX := Cond.laysApart hdB hdX hdnB hdnX (by rw [hnB, hnX]; decide)
  have hskip : SkipFacts T e.platform s (fun u => u) u0 ((npeCell N.toNpeT (preparedCellV T.toThrowableT (freshCell P1.m.cls N.kN) T'.heap.size u0 sen) T'.cur).withEntry T'.cur) :=
    ⟨{ ci198 := ci198, i198 := i198, fBack := fB }, ⟨hk198, hg198, ha198, hsB⟩, by
      have := fresh_default (c := P1.m.cls) tyB
      rw [htB] at this
      simpa [npeCell, preparedCellV, Cell.setSlot, Cell.withEntry, Array.getElem?_setIfInBounds, bC, bS, bP, bX, bC.symm, bS.symm, bP.symm, bX.symm, defaultValue] using this, fun _ _ => rfl⟩
  have hat : At T' g.method c below := by rw [hg]; exact X.here
  have hBu : (stackUse (.native nf :: .java g :: below)).2 = (stackUse (.java g :: below)).2 := by rw [stackUse_light (.native nf) _ (fun f hf => by cases hf) (show (Frame.native nf).words = 0 from hnw)]
  obtain ⟨hbeyond, hfreeW⟩ := nb_may (B := .native nf :: .java g :: below) X hsize (.throwNew "java/lang/NullPointerException" none none) (fun f hf => by cases hf) rfl hBu hRlocals
  obtain ⟨g₁, hfrT⟩ := X.frames_eq
  have hlenT : T'.frames.length = below.length + 1 := by rw [hfrT]; rfl
  have hfr' : (Frame.native nf :: .java g :: below).length + [PR, PE].length + 5 < (e.platform.stackLimits T'.me).1 := by
    have := X.framesAbove hRframes
    simp only [List.length_cons, List.length_nil]
    omega
  have hwd' : (stackUse (.native nf :: .java g :: below)).2 + 13 * [PR, PE].length + 68 ≤ (e.platform.stackLimits T'.me).2 := by
    have := X.stackAbove hsize (K := 13 * 2 + 68) (by omega)
    rw [X.tail] at this
    rw [hBu]
    show _ + 13 * 2 + 68 ≤ _
    omega
  obtain ⟨vm', hW', stp⟩ := nb_npe (p := p) (s₀ := s) (S := T') (B := .native nf :: .java g :: below) hat ⟨[.native nf, .java g], rfl⟩ hexec T L Z LZ N LN X.warmed P1 L1 [PR, PE] (fun P hP => by
      simp only [List.mem_cons, List.not_mem_nil, or_false] at hP
      rcases hP with rfl | rfl
      · exact LR
      · exact LEx) hlink1 ⟨hlinkR, hlinkE, trivial⟩ hfound hk hinit hordN hctor
    (Launch.admits_hotImplicitExceptions X.admits) hbeyond hfreeW (X.cellsAbove hRcells) (X.slotsAbove (by rw [hn]; exact hRslots))
    (cN := ((npeCell N.toNpeT (preparedCellV T.toThrowableT (freshCell P1.m.cls N.kN) T'.heap.size u0 sen) T'.cur).withEntry T'.cur)) rfl
    hsel0 hcellS hknownS (by rw [hkeep _ (hout' _)]; exact hu0) (by rw [fresh_default tyX, LN.stateInt]; rfl)
    (Cond.laysApart hdC hdX hdnC hdnX (by rw [Y.causeName, hnX]; decide)) (Cond.laysApart hdS hdX hdnS hdnX (by rw [Y.stackName, hnX]; decide)) (Cond.laysApart hdP hdX hdnP hdnX (by rw [Y.suppName, hnX]; decide))
    (Takes.of_laid hk hordN tyS (by rw [Y.stackType]; exact fits_refV_array _ u0)) (Takes.of_laid hk hordN tyX (by rw [LN.stateInt]; rfl))
    (by simp [npeCell, preparedCellV, Cell.setSlot, Cell.withEntry]) hskip (fun _ _ hA hW _ hroom _ hrest => L.nativeOff p htr hA hW hroom hrest) hselF (by rw [hkeep _ (hout' _)]; exact hsen)
    (Takes.of_laid hk hordN tyC (by rw [Y.causeType]; rfl)) (Takes.of_laid hk hordN tyP (by rw [Y.suppType]; exact fits_refV_object _ sen)) Y.objLocals hfr' hwd'
  rw [npeBareV_eq T.toThrowableT N.toNpeT T'.heap.size u0 sen T'.cur rfl rfl] at stp
  have X2 := (X.pushed (freshCell P1.m.cls N.kN)).noted hW'
  have hsz : ((T'.pushCell (freshCell P1.m.cls N.kN)).setVm vm').heap.size = T'.heap.size + 1 := State.heap_size_pushCell _ _
  have hlt : T'.heap.size < ((T'.pushCell (freshCell P1.m.cls N.kN)).setVm vm').heap.size := by rw [hsz]; omega
  have hcell : ((T'.pushCell (freshCell P1.m.cls N.kN)).setVm vm').heap[T'.heap.size]? = some (freshCell P1.m.cls N.kN) := State.heap_pushCell_size T' (freshCell P1.m.cls N.kN)
  have X3 := ((((X2.stored hcell T.fCause.slot (.ref T'.heap.size)).storedAgain hlt T.fStack.slot u0.v).storedAgain hlt T.fSupp.slot sen.v).storedAgain hlt N.fState.slot (.int 1)).storedAgain hlt T.fStack.slot u0.v
  have b3 : (freshCell P1.m.cls N.kN).slots.size = n := by simp [hn]
  rw [b3] at X3
  obtain ⟨c3, c4, hc3, hc4, hasg⟩ := Cond.castable_spec (a (.castable Bundle.nN Bundle.nN) (by simp [Bundle.npeArmAtoms]))
  cases Option.some.inj (hc3.symm.trans hfound)
  cases Option.some.inj (hc4.symm.trans hfound)
  refine ⟨_, _, npeBareV T.toThrowableT N.toNpeT (freshCell P1.m.cls N.kN) T'.heap.size u0 sen, X3, fun y hy => ?_, ?_, fun q hq => ?_, heapAt_setCell_self _ hlt, hfound, rfl, hasg, ⟨N.kN, hk⟩, fun target ht => stp target ?_⟩
  · simp only [List.append_assoc, List.cons_append, List.nil_append] at hy
    rcases List.mem_append.mp hy with h1 | h1
    · exact Or.inl h1
    · refine Or.inr ?_
      simp only [List.mem_cons, List.not_mem_nil, or_false] at h1
      rcases h1 with rfl | rfl | rfl | rfl | rfl <;> rfl
  · rw [size_setCell]
    exact hsz
  · rw [State.heap_setCell_other (by omega : T'.heap.size ≠ q)]
    exact State.heap_pushCell_of_lt (s := T') _ hq
  · refine nb_unwind X3.here ⟨[.java g], rfl⟩ hna hnl ?_
    obtain ⟨g₁, hfrM⟩ := X3.frames_eq
    rw [State.pushFrame, State.frames_setTop _ hfrM, State.setTop_of_frames _ hfrM, State.setFrames_setFrames] at ht
    exact ht
end
end
