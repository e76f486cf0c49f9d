section
/-! the sheets: an array of int arrays, the rows pooled (code 0) -/
/-- what the tables say of the array of arrays -/
def ES (d : Nat → ClassId) (U : State) : Prop := (∃ kA : Class, U.vm.classes[d 4]? = some kA ∧ kA.kind = .array (d 0) (.array .int)) ∧ (∃ k0 : Class, U.vm.classes[d 0]? = some k0) ∧ U.vm.assignable (d 0) (d 0) = true
theorem ES.moved {d : Nat → ClassId} : Em (ES d) := by
  intro u U h ⟨⟨kA, h1, h2⟩, ⟨k0, h3⟩, h4⟩
  obtain ⟨k', hk', he⟩ := h.2.2 _ _ h1
  obtain ⟨k0', hk0', -⟩ := h.2.2 _ _ h3
  exact ⟨⟨k', hk', by rw [he]; exact h2⟩, ⟨k0', hk0'⟩, by rw [h.assignable]; exact h4⟩
section
variable {p : Program} {l : Launch} {e : Env} {R : Room} {s : State} {m : MethodId} {args : Array Value} {below : List Frame} {meth : Method} {c : Code} {H : Heap} {locs : List Loc} {cells slots mc ms : Nat} {Q : State → Prop}
variable {cc : ByteArray} {nL : Nat} {own : String} {ret : Option FieldType} {D : va_G} {d : Nat → ClassId} {E : State → Prop} {A : Nat → Prop} {st : CS} {pc : Nat} {ls : Array Slot} {rest : List Value} {o : Nat} {ad : Nat → Nat}
theorem x0_at40 : (wX o ad d st)[25]? = some (ad 40, .inl (d 4, 4, .inr (.inr (.inr (.inr (sR st 40)))))) := rfl
theorem x0_ldS (F : Fx p s m args meth c cc nL own ret D d E A) (C : Cx D (wX o ad d) A s st H locs) {i : Int32} (hin : vp_in i 4) (hdg : decode cc pc = .ok (.aaload, 1)) (kk : W p l e R s m args below meth c H locs cells slots Q (F0 m (pc + 1) ls (va_rf (sR st 40 i.toNatClampNeg) :: rest))) : W p l e R s m args below meth c H locs cells slots Q (F0 m pc ls (.int i :: .ref (ad 40) :: rest)) := by
  obtain ⟨hx, hb, hr, hml, hown, hts, hlk, hA, hK, hE⟩ := F
  have hlt : i.toNatClampNeg < 4 := Nat.not_le.mp fun q => hin (Or.inr q)
  exact W.aald (v := va_rf (sR st 40 i.toNatClampNeg)) (ty := .array .int) hx hb (C.1 25 _ x0_at40) ((hK.1.2 4 _ rfl).1 4 (fun j => va_rf (sR st 40 j))) rfl (fun q => by cases q) (by show ¬ (i < 0 ∨ (arrV _ _ _).slots.size ≤ _); rw [arrV_size]; exact hin) (by show (arrV _ _ _).slots[_]? = _; rw [arrV_read _ _ hlt]) rfl rfl hdg kk
theorem x0_aastN0 {T : State} (X : Stand p l e R s m args below meth c T locs cells slots) (hexec : p.tables.exec = Jvm.exec) {a : Addr} {cell : Cell} {j : Int32} (hcell : T.heap[a]? = some cell) (harr : s.isArrayOf cell (.array .int)) (hknown : cell.vm ≠ .unknown)
    (hin : ¬ (j < 0 ∨ cell.slots.size ≤ j.toNatClampNeg))
    {g : JFrame} (hg : g.method = m) {rest : List Value} (hstack : g.stack = .null :: .int j :: .ref a :: rest) (hdg : decode c.code g.pc = .ok (.aastore, 1)) :
    Stand p l e R s m args below meth c (T.setCell a (cell.setSlot j.toNatClampNeg .null)) (locs ++ [⟨a, j.toNatClampNeg⟩]) cells slots ∧
      ∀ target, Steps p.tables e below ((T.setCell a (cell.setSlot j.toNatClampNeg .null)).setTop { g with pc := g.pc + 1, stack := rest }) target → Steps p.tables e below (T.setTop g) target := by
  have hT := State.isArrayOf_alike X.warmed.alike harr
  have hfit : T.fitsSlot cell.cls cell.vm j.toNatClampNeg .null = true := by
    obtain ⟨hobj, k, hk, comp, hkind⟩ := hT
    cases hvm : cell.vm <;> first | exact absurd hvm (hobj _) | simp [State.fitsSlot, State.slotType?, hk, hkind, fits]
  refine ⟨X.stored hcell _ _, fun target hrest => ?_⟩
  subst hg
  jvm_step X.here [hexec, hdg]
  refine aastore.wp_of_null (c := cell) (t := .array .int) X.here.top hstack hcell hT hin hknown (Nat.not_le.mp fun q => hin (Or.inr q)) hfit ?_
  intro acts
  rw [afterInstr_ok]
  exact hrest
theorem x0_stSN (F : Fx p s m args meth c cc nL own ret D d E A) (C : Cx D (wX o ad d) A s st H locs) {i : Int32} (hin : vp_in i 4) (hdg : decode cc pc = .ok (.aastore, 1))
    (kk : ∀ (H1 : Heap) (locs1 : List Loc) (st1 : CS), st1 = uR st 40 i.toNatClampNeg none → Cx D (wX o ad d) A s st1 H1 locs1 → W p l e R s m args below meth c H1 locs1 cells slots Q (F0 m (pc + 1) ls rest)) : W p l e R s m args below meth c H locs cells slots Q (F0 m pc ls (.null :: .int i :: .ref (ad 40) :: rest)) := by
  obtain ⟨hx, hb, hr, hml, hown, hts, hlk, hA, hK, hE⟩ := F
  obtain ⟨hP, hD, hS⟩ := C
  intro T hT X
  have hcell : H[ad 40]? = some (vp_cell (d 4) (4, .inr (.inr (.inr (.inr (sR st 40)))))) := hP 25 _ x0_at40
  have hT' : T.heap[ad 40]? = some (vp_cell (d 4) (4, .inr (.inr (.inr (.inr (sR st 40)))))) := by rw [hT]; exact hcell
  obtain ⟨X', stp⟩ := x0_aastN0 X hx (g := F0 m pc ls (.null :: .int i :: .ref (ad 40) :: rest)) hT' ((hK.1.2 4 _ rfl).1 4 (fun j => va_rf (sR st 40 j))) (fun h => by cases h) (by show ¬ (i < 0 ∨ (arrV _ _ _).slots.size ≤ _); rw [arrV_size]; exact hin) rfl rfl (by rw [hb]; exact hdg)
  have hlt : ad 40 < T.heap.size := (Array.getElem?_eq_some_iff.mp hT').1
  have e1 := heapAt_setCell_self (s := T) ((vp_cell (d 4) (4, .inr (.inr (.inr (.inr (sR st 40)))))).setSlot i.toNatClampNeg .null) hlt
  have o1 : ∀ q : Nat, q ≠ ad 40 → (T.setCell (ad 40) ((vp_cell (d 4) (4, .inr (.inr (.inr (.inr (sR st 40)))))).setSlot i.toNatClampNeg .null)).heap[q]? = H[q]? := fun q hq => by rw [heapAt_setCell_ne _ (Ne.symm hq), hT]
  have z1 : (T.setCell (ad 40) ((vp_cell (d 4) (4, .inr (.inr (.inr (.inr (sR st 40)))))).setSlot i.toNatClampNeg .null)).heap.size = H.size := by rw [size_setCell, hT]
  have hP2 : va_P D kcl ((wX o ad d st).set 25 (ad 40, .inl (d 4, 4, .inr (.inr (.inr (.inr (va_up (sR st 40) i.toNatClampNeg none))))))) (T.setCell (ad 40) ((vp_cell (d 4) (4, .inr (.inr (.inr (.inr (sR st 40)))))).setSlot i.toNatClampNeg .null)).heap := by
    refine hP.set hD x0_at40 ?_ o1
    show _ = some (vp_cell _ _)
    rw [e1, vp_cell_q, vp_cell_q, arrV_store]
    congr 2
    funext q
    by_cases hq : q = i.toNatClampNeg
    · subst hq
      simp [updV, va_up, va_rf]
    · simp [updV, va_up, hq]
  have hD2 : va_D A ((wX o ad d st).set 25 (ad 40, .inl (d 4, 4, .inr (.inr (.inr (.inr (va_up (sR st 40) i.toNatClampNeg none))))))) := hD.set x0_at40
  obtain ⟨t', a1, b1⟩ := kk _ (locs ++ [⟨ad 40, i.toNatClampNeg⟩]) _ rfl ⟨hP2, hD2, hS.put z1 o1 (hD.2 25 _ x0_at40)⟩ (T.setCell (ad 40) ((vp_cell (d 4) (4, .inr (.inr (.inr (.inr (sR st 40)))))).setSlot i.toNatClampNeg .null)) rfl X'
  exact ⟨t', stp t' a1, b1⟩
theorem x0_stS (hXS : ∀ U, E U → ES d U) (F : Fx p s m args meth c cc nL own ret D d E A) (C : Cx D (wX o ad d) A s st H locs) {i : Int32} {a : Nat} (ha : okC st a 0) (hin : vp_in i 4) (hdg : decode cc pc = .ok (.aastore, 1))
    (kk : ∀ (H1 : Heap) (locs1 : List Loc) (st1 : CS), st1 = uR st 40 i.toNatClampNeg (some a) → Cx D (wX o ad d) A s st1 H1 locs1 → W p l e R s m args below meth c H1 locs1 cells slots Q (F0 m (pc + 1) ls rest)) : W p l e R s m args below meth c H locs cells slots Q (F0 m pc ls (.ref a :: .int i :: .ref (ad 40) :: rest)) := by
  obtain ⟨hx, hb, hr, hml, hown, hts, hlk, hA, hK, hE⟩ := F
  obtain ⟨hP, hD, hS⟩ := C
  have hlt : i.toNatClampNeg < 4 := Nat.not_le.mp fun q => hin (Or.inr q)
  have h0 : ¬ i < 0 := fun q => hin (Or.inl q)
  obtain ⟨⟨kA, k1, k2⟩, ⟨k0, hk0⟩, hasg⟩ := hXS s hK.2
  obtain ⟨qk, hq⟩ := pool_at (o := o) (ad := ad) (d := d) ha.1
  rw [pE_0 ha.2] at hq
  have g1 : H[a]? = some (vp_cell (d 0) ((sE st a).2.1, .inl (sE st a).2.2)) := hP qk _ hq
  refine W.aast hx hb (hP 25 _ x0_at40) (fun q h => by cases h) (fun h => by cases h) k1 k2 rfl hk0 ⟨h0, by show _ < (arrV _ _ _).slots.size; rw [arrV_size]; exact hlt⟩ g1 (fun q h => by cases h) hk0 hasg rfl rfl hdg fun H1 e z oq => ?_
  have hP2 : va_P D kcl ((wX o ad d st).set 25 (ad 40, .inl (d 4, 4, .inr (.inr (.inr (.inr (va_up (sR st 40) i.toNatClampNeg (some a)))))))) H1 := by
    refine hP.set hD x0_at40 ?_ oq
    show H1[ad 40]? = some (vp_cell _ _)
    rw [e, vp_cell_q, vp_cell_q, arrV_store]
    congr 2
    funext q
    by_cases hq : q = i.toNatClampNeg
    · subst hq
      simp [updV, va_up, va_rf]
    · simp [updV, va_up, hq]
  have hD2 : va_D A ((wX o ad d st).set 25 (ad 40, .inl (d 4, 4, .inr (.inr (.inr (.inr (va_up (sR st 40) i.toNatClampNeg (some a)))))))) := hD.set x0_at40
  exact kk H1 _ _ rfl ⟨hP2, hD2, hS.put z oq (hD.2 25 _ x0_at40)⟩
theorem x0_alenS (F : Fx p s m args meth c cc nL own ret D d E A) (C : Cx D (wX o ad d) A s st H locs) {a : Nat} (ha : okC st a 0) (hdg : decode cc pc = .ok (.arraylength, 1)) (kk : W p l e R s m args below meth c H locs cells slots Q (F0 m (pc + 1) ls (.int (nI (sE st a).2.1) :: rest))) : W p l e R s m args below meth c H locs cells slots Q (F0 m pc ls (.ref a :: rest)) := by
  obtain ⟨hx, hb, hr, hml, hown, hts, hlk, hA, hK, hE⟩ := F
  obtain ⟨qk, hq⟩ := pool_at (o := o) (ad := ad) (d := d) ha.1
  rw [pE_0 ha.2] at hq
  exact va_alen (v := nI (sE st a).2.1) hx hb hK.1 C.1 qk 0 hq rfl rfl hdg kk
theorem x0_ialdS (F : Fx p s m args meth c cc nL own ret D d E A) (C : Cx D (wX o ad d) A s st H locs) {a : Nat} {i : Int32} (ha : okC st a 0) (hin : vp_in i (sE st a).2.1) (hdg : decode cc pc = .ok (.iaload, 1)) (kk : W p l e R s m args below meth c H locs cells slots Q (F0 m (pc + 1) ls (.int ((sE st a).2.2 i.toNatClampNeg) :: rest))) : W p l e R s m args below meth c H locs cells slots Q (F0 m pc ls (.int i :: .ref a :: rest)) := by
  obtain ⟨hx, hb, hr, hml, hown, hts, hlk, hA, hK, hE⟩ := F
  obtain ⟨qk, hq⟩ := pool_at (o := o) (ad := ad) (d := d) ha.1
  rw [pE_0 ha.2] at hq
  exact va_iald hx hb hK.1 C.1 qk 0 hq rfl hin hdg kk
theorem x0_newP (F : Fx p s m args meth c cc nL own ret D d E A) (C : Cx D (wX o ad d) A s st H locs) {n : Int32} (hn : ¬ n < 0) (hle : n ≤ 24) (hcells : cells + 1 ≤ R.cells) (hslots : slots + 24 ≤ R.slots) (hdg : decode cc pc = .ok (.newarray .int, 2))
    (kk : ∀ (q : Nat) (H1 : Heap) (st1 : CS), st1 = uN st q (0, n.toNatClampNeg, fun _ => 0) → q ∉ sP st → Cx D (wX o ad d) A s st1 H1 locs → W p l e R s m args below meth c H1 locs (cells + 1) (slots + 24) Q (F0 m (pc + 2) ls (.ref q :: rest))) : W p l e R s m args below meth c H locs cells slots Q (F0 m pc ls (.int n :: rest)) := by
  have hN : n.toNatClampNeg ≤ 24 := by
    obtain ⟨j, hj, e⟩ := nI_of2 (M := 24) (n := 24) (by decide) hn hle
    rw [e, nI_clamp (by omega)]
    exact hj
  refine x_newI (N := n.toNatClampNeg) F C.1 C.2.1 C.2.2 hn rfl (by omega) hcells (by omega) hdg (fun q H1 hP hD hS => ?_)
  obtain ⟨he, hnq⟩ := wX_uN (v := (0, n.toNatClampNeg, fun _ => 0)) hD (show _ = pE o d (0, n.toNatClampNeg, fun _ => 0) from rfl)
  rw [he] at hP hD
  refine W.widen (k := cells + 1) (n := slots + 24) (Nat.le_refl _) (by omega) ?_
  exact kk q H1 _ rfl hnq ⟨hP, hD, hS⟩
/-- ints out of 'paid' into a sheet -/
theorem x0_copyP (F : Fx p s m args meth c cc nL RX0 ret D d E A) (C : Cx D (wX o ad d) A s st H locs) (hsz : ls.size = nL) {a index : Nat} {sp dp n : Int32} (ha : okC st a 0) (hlink : Cond.methodLink RX0 index arraycopyName ∈ lw_all) (h1 : ¬ sp < 0) (h2 : ¬ dp < 0) (h3 : ¬ n < 0) (h4 : sp.toNatClampNeg + n.toNatClampNeg ≤ 576) (h5 : dp.toNatClampNeg + n.toNatClampNeg ≤ (sE st a).2.1)
    (hnat : (Cond.native arraycopyName).before args s = true) (hstat : (Cond.static arraycopyName).before args s = true) (hini : (Cond.initialized "java/lang/System").before args s = true) (hframes : 1 ≤ R.frames) (hlocals : (rest.map fun v => v.category).sum + (nativeFrameWords "java/lang/System" "arraycopy" 5 + 11) ≤ R.locals) (hdg : decode cc pc = .ok (.invokestatic index, 3))
    (kk : ∀ (H1 : Heap) (locs1 : List Loc) (st1 : CS), st1 = uE st a (0, (sE st a).2.1, va_cpy (sA st 39) (sE st a).2.2 sp.toNatClampNeg dp.toNatClampNeg n.toNatClampNeg) → Cx D (wX o ad d) A s st1 H1 locs1 → W p l e R s m args below meth c H1 locs1 cells slots Q (F0 m (pc + 3) ls rest)) : W p l e R s m args below meth c H locs cells slots Q (F0 m pc ls (.int n :: .int dp :: .ref a :: .int sp :: .ref (ad 39) :: rest)) := by
  obtain ⟨hx, hb, hr, hml, hown, hts, hlk, hA, hK, hE⟩ := F
  obtain ⟨hP, hD, hS⟩ := C
  obtain ⟨qk, hq⟩ := pool_at (o := o) (ad := ad) (d := d) ha.1
  have hs := wX_uE (e := .inl (d 0, (sE st a).2.1, .inl (va_cpy (sA st 39) (sE st a).2.2 sp.toNatClampNeg dp.toNatClampNeg n.toNatClampNeg))) (v := (0, (sE st a).2.1, va_cpy (sA st 39) (sE st a).2.2 sp.toNatClampNeg dp.toNatClampNeg n.toNatClampNeg)) hD ha.1 hq rfl
  rw [pE_0 ha.2] at hq
  refine va_copyi hx hb (hml.trans hsz.symm) hown (hts _ hlink) hnat hstat hini hK.1 hP hD hS 24 qk 0 0 (f := sA st 39) (ty := .int) rfl hq rfl rfl rfl h1 h2 h3 h4 h5 (fun i _ => rfl) hframes hlocals hdg (fun H1 locs1 hP hD hS => ?_)
  rw [hs] at hP hD
  exact kk H1 locs1 _ rfl ⟨hP, hD, hS⟩
/-- ints out of a sheet into a sheet -/
theorem x0_copyS (F : Fx p s m args meth c cc nL RX0 ret D d E A) (C : Cx D (wX o ad d) A s st H locs) (hsz : ls.size = nL) {a b index : Nat} {sp dp n : Int32} (hb0 : okC st b 0) (ha : okC st a 0) (hlink : Cond.methodLink RX0 index arraycopyName ∈ lw_all) (h1 : ¬ sp < 0) (h2 : ¬ dp < 0) (h3 : ¬ n < 0) (h4 : sp.toNatClampNeg + n.toNatClampNeg ≤ (sE st b).2.1) (h5 : dp.toNatClampNeg + n.toNatClampNeg ≤ (sE st a).2.1)
    (hnat : (Cond.native arraycopyName).before args s = true) (hstat : (Cond.static arraycopyName).before args s = true) (hini : (Cond.initialized "java/lang/System").before args s = true) (hframes : 1 ≤ R.frames) (hlocals : (rest.map fun v => v.category).sum + (nativeFrameWords "java/lang/System" "arraycopy" 5 + 11) ≤ R.locals) (hdg : decode cc pc = .ok (.invokestatic index, 3))
    (kk : ∀ (H1 : Heap) (locs1 : List Loc) (st1 : CS), st1 = uE st a (0, (sE st a).2.1, va_cpy (sE st b).2.2 (sE st a).2.2 sp.toNatClampNeg dp.toNatClampNeg n.toNatClampNeg) → Cx D (wX o ad d) A s st1 H1 locs1 → W p l e R s m args below meth c H1 locs1 cells slots Q (F0 m (pc + 3) ls rest)) : W p l e R s m args below meth c H locs cells slots Q (F0 m pc ls (.int n :: .int dp :: .ref a :: .int sp :: .ref b :: rest)) := by
  obtain ⟨hx, hb, hr, hml, hown, hts, hlk, hA, hK, hE⟩ := F
  obtain ⟨hP, hD, hS⟩ := C
  obtain ⟨qk, hq⟩ := pool_at (o := o) (ad := ad) (d := d) ha.1
  obtain ⟨q0, hq0⟩ := pool_at (o := o) (ad := ad) (d := d) hb0.1
  have hs := wX_uE (e := .inl (d 0, (sE st a).2.1, .inl (va_cpy (sE st b).2.2 (sE st a).2.2 sp.toNatClampNeg dp.toNatClampNeg n.toNatClampNeg))) (v := (0, (sE st a).2.1, va_cpy (sE st b).2.2 (sE st a).2.2 sp.toNatClampNeg dp.toNatClampNeg n.toNatClampNeg)) hD ha.1 hq rfl
  rw [pE_0 ha.2] at hq
  rw [pE_0 hb0.2] at hq0
  refine va_copyi hx hb (hml.trans hsz.symm) hown (hts _ hlink) hnat hstat hini hK.1 hP hD hS q0 qk 0 0 (ty := .int) hq0 hq rfl rfl rfl h1 h2 h3 h4 h5 (fun i _ => rfl) hframes hlocals hdg (fun H1 locs1 hP hD hS => ?_)
  rw [hs] at hP hD
  exact kk H1 locs1 _ rfl ⟨hP, hD, hS⟩
/-- locals that may hold null -/
theorem lv_aloadQ (hx : p.tables.exec = Jvm.exec) (hb : c.code = cc) {i : Nat} {r : Option Nat} (hdg : decode cc pc = .ok (.aload i, 2)) (hl : ls[i]? = some (.val (va_rf r))) (k : W p l e R s m args below meth c H locs cells slots Q (F0 m (pc + 2) ls (va_rf r :: rest))) : W p l e R s m args below meth c H locs cells slots Q (F0 m pc ls rest) := by
  cases r with
  | none => exact lv_aloadN hx hb hdg hl k
  | some a => exact lv_aload hx hb hdg hl k
theorem lv_astoreQ (hx : p.tables.exec = Jvm.exec) (hb : c.code = cc) {i nL : Nat} {r : Option Nat} {lv lv' : List (Nat × Value)} (hdg : decode cc pc = .ok (.astore i, 2)) (h : lv_has ls nL lv) (hn : i < nL) (hl : (i, va_rf r) :: lv.filter (fun q => !(q.1 == i) && !(q.1 + 1 == i && q.2.category == 2)) = lv')
    (kk : ∀ ls' : Array Slot, lv_has ls' nL lv' → W p l e R s m args below meth c H locs cells slots Q (F0 m (pc + 2) ls' rest)) : W p l e R s m args below meth c H locs cells slots Q (F0 m pc ls (va_rf r :: rest)) := by
  cases r with
  | none => exact lv_astoreN hx hb hdg h hn hl kk
  | some a => exact lv_astore hx hb hdg h hn hl kk
theorem lv_ifnnQ (hx : p.tables.exec = Jvm.exec) (hb : c.code = cc) {r : Option Nat} {off : Int} {tgt : Nat} (hdg : decode cc pc = .ok (.ifnonnull off, 3)) (ht : (pc : Int) + off = (tgt : Int)) (ks : ¬ r = none → W p l e R s m args below meth c H locs cells slots Q (F0 m tgt ls rest)) (kn : r = none → W p l e R s m args below meth c H locs cells slots Q (F0 m (pc + 3) ls rest)) : W p l e R s m args below meth c H locs cells slots Q (F0 m pc ls (va_rf r :: rest)) := by
  cases r with
  | none => exact lv_ifnonnullN hx hb hdg (kn rfl)
  | some a => exact lv_ifnonnull hx hb hdg ht (ks (by simp))
theorem lv_ifnQ (hx : p.tables.exec = Jvm.exec) (hb : c.code = cc) {r : Option Nat} {off : Int} {tgt : Nat} (hdg : decode cc pc = .ok (.ifnull off, 3)) (ht : (pc : Int) + off = (tgt : Int)) (kn : r = none → W p l e R s m args below meth c H locs cells slots Q (F0 m tgt ls rest)) (ks : ¬ r = none → W p l e R s m args below meth c H locs cells slots Q (F0 m (pc + 3) ls rest)) : W p l e R s m args below meth c H locs cells slots Q (F0 m pc ls (va_rf r :: rest)) := by
  cases r with
  | none => exact lv_ifnullN hx hb hdg ht (kn rfl)
  | some a => exact lv_ifnull hx hb hdg (ks (by simp))
end
end
