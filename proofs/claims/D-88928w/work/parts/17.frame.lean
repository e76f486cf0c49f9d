section
/-! two worlds side by side -/
theorem fr_left {D : va_G} {cl : List vw_C} {X Y X' : va_W} {A : Nat → Prop} {H H1 : Heap} (hP : va_P D cl (X ++ Y) H) (hD : va_D A (X ++ Y)) (hk : ∀ q : Nat, q < H.size → ¬ va_A X H.size q → H1[q]? = H[q]?) (hF : ∀ q, va_A X H.size q → A q) (hP1 : va_P D cl X' H1) (hD1 : va_D (va_A X H.size) X') : va_P D cl (X' ++ Y) H1 ∧ va_D A (X' ++ Y) := by
  have hY : ∀ (k : Nat) (q : Nat × va_E), Y[k]? = some q → (X ++ Y)[X.length + k]? = some q := fun k q h => by rw [List.getElem?_append_right (by omega)]; simpa using h
  have hlt : ∀ (k : Nat) (q : Nat × va_E), Y[k]? = some q → q.1 < H.size := fun k q h => (hP _ _ (hY k q h)).lt
  have hno : ∀ (k : Nat) (q : Nat × va_E), Y[k]? = some q → ¬ va_A X H.size q.1 := by
    intro k q h hA
    rcases hA with ⟨j, e, hj⟩ | hA
    · have hjl : j < X.length := (List.getElem?_eq_some_iff.mp hj).1
      have := hD.1 j (X.length + k) (q.1, e) q (by rw [List.getElem?_append_left hjl]; exact hj) (hY k q h) rfl
      omega
    · have := hlt k q h
      omega
  refine ⟨?_, ?_, ?_⟩
  · intro k q h
    by_cases hl : k < X'.length
    · rw [List.getElem?_append_left hl] at h
      exact hP1 k q h
    · rw [List.getElem?_append_right (by omega)] at h
      exact (hP _ _ (hY _ q h)).kept (hk q.1 (hlt _ q h) (hno _ q h))
  · intro i j p q hi hj e
    by_cases hil : i < X'.length
    · rw [List.getElem?_append_left hil] at hi
      by_cases hjl : j < X'.length
      · rw [List.getElem?_append_left hjl] at hj
        exact hD1.1 i j p q hi hj e
      · rw [List.getElem?_append_right (by omega)] at hj
        exact absurd (by rw [← e]; exact hD1.2 i p hi) (hno _ q hj)
    · rw [List.getElem?_append_right (by omega)] at hi
      by_cases hjl : j < X'.length
      · rw [List.getElem?_append_left hjl] at hj
        exact absurd (by rw [e]; exact hD1.2 j q hj) (hno _ p hi)
      · rw [List.getElem?_append_right (by omega)] at hj
        have := hD.1 _ _ p q (hY _ p hi) (hY _ q hj) e
        omega
  · intro k q h
    by_cases hl : k < X'.length
    · rw [List.getElem?_append_left hl] at h
      exact hF _ (hD1.2 k q h)
    · rw [List.getElem?_append_right (by omega)] at h
      exact hD.2 _ q (hY _ q h)
theorem fr_swap {X Y : va_W} {k : Nat} {q : Nat × va_E} (h : (Y ++ X)[k]? = some q) : (X ++ Y)[if k < Y.length then X.length + k else k - Y.length]? = some q := by
  by_cases hl : k < Y.length
  · rw [if_pos hl, List.getElem?_append_right (by omega)]
    rw [List.getElem?_append_left hl] at h
    simpa using h
  · rw [if_neg hl]
    rw [List.getElem?_append_right (by omega)] at h
    have hx : k - Y.length < X.length := (List.getElem?_eq_some_iff.mp h).1
    rw [List.getElem?_append_left hx]
    exact h
theorem fr_swapP {D : va_G} {cl : List vw_C} {X Y : va_W} {H : Heap} (hP : va_P D cl (X ++ Y) H) : va_P D cl (Y ++ X) H := fun k q h => hP _ q (fr_swap h)
theorem fr_swapD {X Y : va_W} {A : Nat → Prop} (hD : va_D A (X ++ Y)) : va_D A (Y ++ X) := by
  refine ⟨fun i j p q hi hj e => ?_, fun k q h => hD.2 _ q (fr_swap h)⟩
  have h := hD.1 _ _ p q (fr_swap hi) (fr_swap hj) e
  have li : i < (Y ++ X).length := (List.getElem?_eq_some_iff.mp hi).1
  have lj : j < (Y ++ X).length := (List.getElem?_eq_some_iff.mp hj).1
  rw [List.length_append] at li lj
  by_cases h1 : i < Y.length <;> by_cases h2 : j < Y.length <;> simp only [h1, h2, if_true, if_false] at h <;> omega
theorem fr_PL {D : va_G} {cl : List vw_C} {X Y : va_W} {H : Heap} (hP : va_P D cl (X ++ Y) H) : va_P D cl X H := fun k q h => hP k q (by rw [List.getElem?_append_left (List.getElem?_eq_some_iff.mp h).1]; exact h)
theorem fr_DL {X Y : va_W} {A : Nat → Prop} (hD : va_D A (X ++ Y)) : va_D A X := ⟨fun i j p q hi hj e => hD.1 i j p q (by rw [List.getElem?_append_left (List.getElem?_eq_some_iff.mp hi).1]; exact hi) (by rw [List.getElem?_append_left (List.getElem?_eq_some_iff.mp hj).1]; exact hj) e, fun k q h => hD.2 k q (by rw [List.getElem?_append_left (List.getElem?_eq_some_iff.mp h).1]; exact h)⟩
section
variable {p : Program} {l : Launch} {e : Env} {R : Room} {s : State} {m : MethodId} {args : Array Value} {below : List Frame} {meth : Method} {c : Code} {H : Heap} {locs : List Loc} {cells slots mc ms : Nat} {Q : State → Prop}
variable {cc : ByteArray} {nL : Nat} {own : String} {D : va_G} {d : Nat → ClassId} {E : State → Prop} {A : Nat → Prop} {wf : CS → va_W} {st : CS} {pc : Nat} {ls : Array Slot} {rest : List Value} {Y : va_W}
/-- what stays fixed in the law's body -/
def Lx (p : Program) (s : State) (m : MethodId) (args : Array Value) (c : Code) (cc : ByteArray) (nL : Nat) (own : String) (D : va_G) (d : Nat → ClassId) (E : State → Prop) (A : Nat → Prop) : Prop :=
  p.tables.exec = Jvm.exec ∧ c.code = cc ∧ c.maxLocals = nL ∧ s.vm.findClass own = some m.cls ∧ (∀ w ∈ lw_all, w.before args s = true) ∧ (∀ q : Nat, s.heap.size ≤ q → A q) ∧ KX D d E s ∧ Em E
theorem Lx.pre {As : List Value} {X : va_W} (F : Lx p s m args c cc nL own D d E A) (hP : va_P D kcl (X ++ Y) H) (hD : va_D A (X ++ Y)) (U : State) (hU : U.heap = H) (hW : s.WarmedH U.vm) : va_Pc As (PX D d E X H.size) As.toArray U := by
  obtain ⟨hx, hb, hml, hown, hts, hA, hK, hE⟩ := F
  exact ⟨rfl, by rw [hU], by rw [hU]; exact fr_PL hP, KX.moved hE hW.alike hK, (fr_DL hD).weaken (fun _ _ _ _ => trivial)⟩
theorem Lx.free {X : va_W} (F : Lx p s m args c cc nL own D d E A) (hD : va_D A (X ++ Y)) (hS : va_S A s.heap H locs) : ∀ q : Nat, va_A X H.size q → A q := by
  obtain ⟨hx, hb, hml, hown, hts, hA, hK, hE⟩ := F
  intro q h
  rcases h with ⟨k, e, hk⟩ | h
  · exact (fr_DL hD).2 k _ hk
  · exact hA q (Nat.le_trans hS.1 h)
/-- a call out of the law: the object's world stands first, another world behind it -/
theorem l_callI {y : MethodName} {bytes : ByteArray} {maxL n index ci : Nat} {rt : Option FieldType} {wsM : List Cond} {rm : Room} {As : List Value} {o : Nat} {fs : List Value} {q : vw_C} {post : Int32 → CS → Prop} (F : Lx p s m args c cc nL own D d E A) (hP : va_P D kcl (wf st ++ Y) H) (hD : va_D A (wf st ++ Y)) (hS : va_S A s.heap H locs)
    (hM : CtI l y wsM rm D d E wf mc ms (.ref o :: As) st post) (cw : CallW R s args own q.1 index y bytes maxL rt wsM rm mc ms n) (he : (wf st)[0]? = some (o, .inr (ci, fs))) (hc : kcl[ci]? = some q)
    (hn : As.length = n) (hsz : ls.size = nL) {st0 : List Value} (hst : st0 = As.reverse ++ .ref o :: rest) (hW : (rest.map fun v => v.category).sum ≤ 8) (hdg : decode cc pc = .ok (.invokevirtual index, 3)) (hf : cells + mc ≤ R.cells ∧ slots + ms ≤ R.slots)
    (k : ∀ (r : Int32) (st' : CS) (H1 : Heap) (locs1 : List Loc), post r st' → va_P D kcl (wf st' ++ Y) H1 → va_D A (wf st' ++ Y) → va_S A s.heap H1 locs1 → W p l e R s m args below meth c H1 locs1 (cells + mc) (slots + ms) Q (F0 m (pc + 3) ls (.int r :: rest))) :
    W p l e R s m args below meth c H locs cells slots Q (F0 m pc ls st0) := by
  have F' := F
  obtain ⟨hx, hb, hml, hown, hts, hA, hK, hE⟩ := F'
  refine va_calli (va_runV (Ts := lw_all) (rest := rest) ⟨hx, hb, hml, hown, hts⟩ (hM H.size) cw ⟨PX.blind hE, va_recv hK.1 (fr_PL hP) hc he, Lx.pre F hP hD⟩ rfl hn hsz hst (by simpa [JFrame.monitorRoom] using hW) hdg hf) hS (fun q _ h => Lx.free F hD hS q h) (Lx.free F hD hS) (fun r u t H1 locs1 ht hvm hw hB hz hk hS1 => ?_)
  obtain ⟨hP1, hK1, hD1⟩ := hB
  rw [ht] at hP1
  obtain ⟨hP2, hD2⟩ := fr_left hP hD hk (Lx.free F hD hS) hP1 hD1
  exact k r u H1 locs1 hw hP2 hD2 hS1
theorem l_callL {y : MethodName} {bytes : ByteArray} {maxL n index ci : Nat} {rt : Option FieldType} {wsM : List Cond} {rm : Room} {As : List Value} {o : Nat} {fs : List Value} {q : vw_C} {post : Int64 → CS → Prop} (F : Lx p s m args c cc nL own D d E A) (hP : va_P D kcl (wf st ++ Y) H) (hD : va_D A (wf st ++ Y)) (hS : va_S A s.heap H locs)
    (hM : CtL l y wsM rm D d E wf mc ms (.ref o :: As) st post) (cw : CallW R s args own q.1 index y bytes maxL rt wsM rm mc ms n) (he : (wf st)[0]? = some (o, .inr (ci, fs))) (hc : kcl[ci]? = some q)
    (hn : As.length = n) (hsz : ls.size = nL) {st0 : List Value} (hst : st0 = As.reverse ++ .ref o :: rest) (hW : (rest.map fun v => v.category).sum ≤ 8) (hdg : decode cc pc = .ok (.invokevirtual index, 3)) (hf : cells + mc ≤ R.cells ∧ slots + ms ≤ R.slots)
    (k : ∀ (r : Int64) (st' : CS) (H1 : Heap) (locs1 : List Loc), post r st' → va_P D kcl (wf st' ++ Y) H1 → va_D A (wf st' ++ Y) → va_S A s.heap H1 locs1 → W p l e R s m args below meth c H1 locs1 (cells + mc) (slots + ms) Q (F0 m (pc + 3) ls (.long r :: rest))) :
    W p l e R s m args below meth c H locs cells slots Q (F0 m pc ls st0) := by
  have F' := F
  obtain ⟨hx, hb, hml, hown, hts, hA, hK, hE⟩ := F'
  refine va_calll (va_runV (Ts := lw_all) (rest := rest) ⟨hx, hb, hml, hown, hts⟩ (hM H.size) cw ⟨PX.blind hE, va_recv hK.1 (fr_PL hP) hc he, Lx.pre F hP hD⟩ rfl hn hsz hst (by simpa [JFrame.monitorRoom] using hW) hdg hf) hS (fun q _ h => Lx.free F hD hS q h) (Lx.free F hD hS) (fun r u t H1 locs1 ht hvm hw hB hz hk hS1 => ?_)
  obtain ⟨hP1, hK1, hD1⟩ := hB
  rw [ht] at hP1
  obtain ⟨hP2, hD2⟩ := fr_left hP hD hk (Lx.free F hD hS) hP1 hD1
  exact k r u H1 locs1 hw hP2 hD2 hS1
/-- a constructor's call out of the law: the blank object stands first -/
theorem l_callN {y : MethodName} {bytes : ByteArray} {maxL index : Nat} {rm : Room} {o : Nat} {w0 : va_W} {wn : (Nat → Nat) → va_W} (F : Lx p s m args c cc nL own D d E A) (hP : va_P D kcl (w0 ++ Y) H) (hD : va_D A (w0 ++ Y)) (hS : va_S A s.heap H locs)
    (hM : CtN l y (ws_ y bytes maxL none) rm D d E w0 wn mc ms [.ref o]) (cw : CallB R s args own index y bytes maxL none (ws_ y bytes maxL none) rm mc ms 0 ∧ y.name = "<init>" ∧ (Cond.instanceMethod y).before args s = true)
    (hsz : ls.size = nL) {st0 : List Value} (hst : st0 = .ref o :: rest) (hW : (rest.map fun v => v.category).sum ≤ 8) (hdg : decode cc pc = .ok (.invokespecial index, 3)) (hf : cells + mc ≤ R.cells ∧ slots + ms ≤ R.slots)
    (k : ∀ (ad : Nat → Nat) (H1 : Heap) (locs1 : List Loc), va_P D kcl (wn ad ++ Y) H1 → va_D A (wn ad ++ Y) → va_S A s.heap H1 locs1 → W p l e R s m args below meth c H1 locs1 (cells + mc) (slots + ms) Q (F0 m (pc + 3) ls rest)) :
    W p l e R s m args below meth c H locs cells slots Q (F0 m pc ls st0) := by
  have F' := F
  obtain ⟨hx, hb, hml, hown, hts, hA, hK, hE⟩ := F'
  refine va_callv (va_runI (Ts := lw_all) (As := []) (rest := rest) ⟨hx, hb, hml, hown, hts⟩ (hM H.size) cw ⟨PX.blind hE, Lx.pre F hP hD⟩ rfl rfl hsz hst (by simpa [JFrame.monitorRoom] using hW) hdg hf) hS (fun q _ h => Lx.free F hD hS q h) (Lx.free F hD hS) (fun u t H1 locs1 ht hvm hw hB hz hk hS1 => ?_)
  obtain ⟨hP1, hK1, hD1⟩ := hB
  rw [ht] at hP1
  obtain ⟨hP2, hD2⟩ := fr_left hP hD hk (Lx.free F hD hS) hP1 hD1
  exact k u H1 locs1 hP2 hD2 hS1
end
end
