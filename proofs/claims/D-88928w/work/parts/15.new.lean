section
/-! new arrays; the constructors' contract -/
section
variable {p : Program} {l : Launch} {e : Env} {R : Room} {s : State} {m : MethodId} {args : Array Value} {below : List Frame} {meth : Method} {c : Code} {H : Heap} {locs : List Loc} {cells slots mc ms : Nat} {Q : State → Prop}
variable {cc : ByteArray} {nL : Nat} {own : String} {ret : Option FieldType} {D : va_G} {d : Nat → ClassId} {E : State → Prop} {A : Nat → Prop} {ws : va_W} {pc : Nat} {ls : Array Slot} {rest : List Value}
theorem x_newI (F : Fx p s m args meth c cc nL own ret D d E A) (hP : va_P D kcl ws H) (hD : va_D A ws) (hS : va_S A s.heap H locs) {n : Int32} {N : Nat} (hn : ¬ n < 0) (hN : n.toNatClampNeg = N) (hbytes : N * 4 ≤ 536870912) (hcells : cells + 1 ≤ R.cells) (hslots : slots + N ≤ R.slots) (hdg : decode cc pc = .ok (.newarray .int, 2))
    (kk : ∀ (q : Nat) (H1 : Heap), va_P D kcl (ws ++ [(q, .inl (d 0, N, .inl (fun _ => 0)))]) H1 → va_D A (ws ++ [(q, .inl (d 0, N, .inl (fun _ => 0)))]) → va_S A s.heap H1 locs → W p l e R s m args below meth c H1 locs (cells + 1) (slots + N) Q (F0 m (pc + 2) ls (.ref q :: rest))) : W p l e R s m args below meth c H locs cells slots Q (F0 m pc ls (.int n :: rest)) := by
  obtain ⟨hx, hb, hr, hml, hown, hts, hlk, hA, hK, hE⟩ := F
  refine va_newa (atype := .int) (ty := .int) (a0 := (N, .inl (fun _ => 0))) hx hb (hts _ q225) rfl hK.1 hP hD hS hA (fun cA => rfl) hn hN hbytes hcells hslots hdg (fun q cA H1 hK1 hP hD hS => ?_)
  have e1 : s.vm.findClass ("[" ++ (FieldType.int).toString) = some cA := (hK1.2 5 _ rfl).2
  have e2 : s.vm.findClass ("[" ++ (FieldType.int).toString) = some (d 0) := (hK.1.2 0 _ rfl).2
  have e3 : cA = d 0 := Option.some.inj (e1.symm.trans e2)
  subst e3
  exact kk q H1 hP hD hS
theorem x_newJ (F : Fx p s m args meth c cc nL own ret D d E A) (hP : va_P D kcl ws H) (hD : va_D A ws) (hS : va_S A s.heap H locs) {n : Int32} {N : Nat} (hn : ¬ n < 0) (hN : n.toNatClampNeg = N) (hbytes : N * 8 ≤ 536870912) (hcells : cells + 1 ≤ R.cells) (hslots : slots + N ≤ R.slots) (hdg : decode cc pc = .ok (.newarray .long, 2))
    (kk : ∀ (q : Nat) (H1 : Heap), va_P D kcl (ws ++ [(q, .inl (d 1, N, .inr (.inl (fun _ => 0))))]) H1 → va_D A (ws ++ [(q, .inl (d 1, N, .inr (.inl (fun _ => 0))))]) → va_S A s.heap H1 locs → W p l e R s m args below meth c H1 locs (cells + 1) (slots + N) Q (F0 m (pc + 2) ls (.ref q :: rest))) : W p l e R s m args below meth c H locs cells slots Q (F0 m pc ls (.int n :: rest)) := by
  obtain ⟨hx, hb, hr, hml, hown, hts, hlk, hA, hK, hE⟩ := F
  refine va_newa (atype := .long) (ty := .long) (a0 := (N, .inr (.inl (fun _ => 0)))) hx hb (hts _ q227) rfl hK.1 hP hD hS hA (fun cA => rfl) hn hN hbytes hcells hslots hdg (fun q cA H1 hK1 hP hD hS => ?_)
  have e1 : s.vm.findClass ("[" ++ (FieldType.long).toString) = some cA := (hK1.2 5 _ rfl).2
  have e2 : s.vm.findClass ("[" ++ (FieldType.long).toString) = some (d 1) := (hK.1.2 1 _ rfl).2
  have e3 : cA = d 1 := Option.some.inj (e1.symm.trans e2)
  subst e3
  exact kk q H1 hP hD hS
theorem x_newZ (F : Fx p s m args meth c cc nL own ret D d E A) (hP : va_P D kcl ws H) (hD : va_D A ws) (hS : va_S A s.heap H locs) {n : Int32} {N : Nat} (hn : ¬ n < 0) (hN : n.toNatClampNeg = N) (hbytes : N * 1 ≤ 536870912) (hcells : cells + 1 ≤ R.cells) (hslots : slots + N ≤ R.slots) (hdg : decode cc pc = .ok (.newarray .boolean, 2))
    (kk : ∀ (q : Nat) (H1 : Heap), va_P D kcl (ws ++ [(q, .inl (d 2, N, .inl (fun _ => 0)))]) H1 → va_D A (ws ++ [(q, .inl (d 2, N, .inl (fun _ => 0)))]) → va_S A s.heap H1 locs → W p l e R s m args below meth c H1 locs (cells + 1) (slots + N) Q (F0 m (pc + 2) ls (.ref q :: rest))) : W p l e R s m args below meth c H locs cells slots Q (F0 m pc ls (.int n :: rest)) := by
  obtain ⟨hx, hb, hr, hml, hown, hts, hlk, hA, hK, hE⟩ := F
  refine va_newa (atype := .boolean) (ty := .boolean) (a0 := (N, .inl (fun _ => 0))) hx hb (hts _ q226) rfl hK.1 hP hD hS hA (fun cA => rfl) hn hN hbytes hcells hslots hdg (fun q cA H1 hK1 hP hD hS => ?_)
  have e1 : s.vm.findClass ("[" ++ (FieldType.boolean).toString) = some cA := (hK1.2 5 _ rfl).2
  have e2 : s.vm.findClass ("[" ++ (FieldType.boolean).toString) = some (d 2) := (hK.1.2 2 _ rfl).2
  have e3 : cA = d 2 := Option.some.inj (e1.symm.trans e2)
  subst e3
  exact kk q H1 hP hD hS
/-- what the constructor of HeirHunters needs of the tables for its two arrays of references -/
def EA (U : State) : Prop := (Cond.arrayOver (.object "HeirHunters$Line")).before #[] U = true ∧ (Cond.arrayOver (.array .int)).before #[] U = true
theorem x_newL (hXA : ∀ U, E U → EA U) (F : Fx p s m args meth c cc nL RX0 ret D d E A) (hP : va_P D kcl ws H) (hD : va_D A ws) (hS : va_S A s.heap H locs) {n : Int32} {N : Nat} (hn : ¬ n < 0) (hN : n.toNatClampNeg = N) (hbytes : N * 4 ≤ 536870912) (hcells : cells + 1 ≤ R.cells) (hslots : slots + N ≤ R.slots) (hdg : decode cc pc = .ok (.anewarray 30, 3))
    (kk : ∀ (q : Nat) (H1 : Heap), va_P D kcl (ws ++ [(q, .inl (d 3, N, .inr (.inr (.inr (.inr (fun _ => none))))))]) H1 → va_D A (ws ++ [(q, .inl (d 3, N, .inr (.inr (.inr (.inr (fun _ => none))))))]) → va_S A s.heap H1 locs → W p l e R s m args below meth c H1 locs (cells + 1) (slots + N) Q (F0 m (pc + 3) ls (.ref q :: rest))) : W p l e R s m args below meth c H locs cells slots Q (F0 m pc ls (.int n :: rest)) := by
  obtain ⟨hx, hb, hr, hml, hown, hts, hlk, hA, hK, hE⟩ := F
  refine va_newq (C := "HeirHunters$Line") hx hb hown (hts _ q97) (hXA s hK.2).1 hK.1 hP hD hS hA hn hN hbytes hcells hslots hdg (fun q cA H1 hK1 hP hD hS => ?_)
  obtain ⟨_, _, _, _, _, e1⟩ := (hK1.2 5 _ rfl).2
  obtain ⟨_, _, _, _, _, e2⟩ := (hK.1.2 3 _ rfl).2
  have e3 : cA = d 3 := Option.some.inj (e1.symm.trans e2)
  subst e3
  exact kk q H1 hP hD hS
theorem x_newS (hXA : ∀ U, E U → EA U) (F : Fx p s m args meth c cc nL RX0 ret D d E A) (hP : va_P D kcl ws H) (hD : va_D A ws) (hS : va_S A s.heap H locs) {n : Int32} {N : Nat} (hn : ¬ n < 0) (hN : n.toNatClampNeg = N) (hbytes : N * 4 ≤ 536870912) (hcells : cells + 1 ≤ R.cells) (hslots : slots + N ≤ R.slots) (hdg : decode cc pc = .ok (.anewarray 95, 3))
    (kk : ∀ (q : Nat) (H1 : Heap), va_P D kcl (ws ++ [(q, .inl (d 4, N, .inr (.inr (.inr (.inr (fun _ => none))))))]) H1 → va_D A (ws ++ [(q, .inl (d 4, N, .inr (.inr (.inr (.inr (fun _ => none))))))]) → va_S A s.heap H1 locs → W p l e R s m args below meth c H1 locs (cells + 1) (slots + N) Q (F0 m (pc + 3) ls (.ref q :: rest))) : W p l e R s m args below meth c H locs cells slots Q (F0 m pc ls (.int n :: rest)) := by
  obtain ⟨hx, hb, hr, hml, hown, hts, hlk, hA, hK, hE⟩ := F
  subst hN
  refine W.anewA (t := .int) hx hb hown (hts _ q99) (hXA s hK.2).2 rfl hdg rfl hn hbytes hcells hslots fun cA kA comp f1 f2 f3 f4 => ?_
  generalize hH1 : H.push ({ cls := cA, slots := Array.replicate n.toNatClampNeg .null, vm := .none } : Cell) = H1
  have z1 : H1.size = H.size + 1 := by rw [← hH1, Array.size_push]
  have e1 : H1[H.size]? = some (arrV cA n.toNatClampNeg (fun _ => .null)) := by rw [← hH1, Array.getElem?_push_size, ← arrV_new]
  have o1 : ∀ q : Nat, q < H.size → H1[q]? = H[q]? := fun q hq => by rw [← hH1, Array.getElem?_push, if_neg (Nat.ne_of_lt hq)]
  have hk : ∀ (k : Nat) (x : Nat × va_E), ws[k]? = some x → H1[x.1]? = H[x.1]? := fun k x hx => o1 x.1 ((hP k x hx).lt)
  have e2 : s.vm.findClass ("[" ++ (FieldType.array .int).toString) = some (d 4) := (hK.1.2 4 _ rfl).2
  have e3 : cA = d 4 := Option.some.inj (f1.symm.trans e2)
  subst e3
  refine kk H.size H1 ((hP.kept hk).app (fun k x hx => ?_)) (hD.push hP rfl (hA _ hS.1)) ⟨Nat.le_trans hS.1 (by omega), fun x h1 h2 => (o1 x (Nat.lt_of_lt_of_le h1 hS.1)).trans (hS.2.1 x h1 h2), hS.2.2⟩
  have hz : k < 1 := (List.getElem?_eq_some_iff.mp hx).1
  rw [show k = 0 by omega] at hx
  cases hx
  exact e1
end
/-- a constructor's contract: out of the blank object the whole world comes -/
def CtN (l : Launch) (y : MethodName) (ws : List Cond) (rm : Room) (D : va_G) (d : Nat → ClassId) (E : State → Prop) (w0 : va_W) (wf : (Nat → Nat) → va_W) (mc ms : Nat) (As : List Value) : Prop :=
  ∀ sz : Nat, Met l y ws rm (va_Pc As (PX D d E w0 sz)) (va_Qv (fun _ : Nat → Nat => True) (fun ad t => va_P D kcl (wf ad) t.heap ∧ KX D d E t ∧ va_D (va_A w0 sz) (wf ad)) (va_A w0 sz)) mc ms (va_A w0 sz)
def QN (below : List Frame) (D : va_G) (d : Nat → ClassId) (E : State → Prop) (wf : (Nat → Nat) → va_W) (A : Nat → Prop) (args : Array Value) (s : State) (mc ms : Nat) : State → Prop := MQ below (va_Qv (fun _ : Nat → Nat => True) (fun ad t => va_P D kcl (wf ad) t.heap ∧ KX D d E t ∧ va_D A (wf ad)) A) args s mc ms A
theorem CtN.of {l : Launch} {y : MethodName} {rm : Room} {D : va_G} {d : Nat → ClassId} {E : State → Prop} {w0 : va_W} {wf : (Nat → Nat) → va_W} {mc ms : Nat} {As : List Value} {cc : ByteArray} {nL : Nat} {own : String} (hE : Em E) (hy : plainName y.cls = true) (hown : y.cls = own) (hn : (lg_sl As).length ≤ nL) (hyn : y.name = "<init>")
    (body : ∀ (p : Program) (e : Env) (s : State) (m : MethodId) (below : List Frame) (meth : Method) (c : Code) (A : Nat → Prop) (ls : Array Slot), Fx p s m As.toArray meth c cc nL own none D d E A → va_P D kcl w0 s.heap → va_D A w0 → va_S A s.heap s.heap [] → meth.name = "<init>" → lv_has ls nL (lv_args 0 As) →
      W p l e (headSpec (ws_ y cc nL none) rm).room s m As.toArray below meth c s.heap [] 0 0 (QN below D d E wf A As.toArray s mc ms) (F0 m 0 ls [])) :
    CtN l y (ws_ y cc nL none) rm D d E w0 wf mc ms As := by
  intro sz
  refine Met.ofW (cc := cc) (maxL := nL) (ret := none) hy rfl ?_
  intro p e s m args below meth c s₁ B hml hv
  obtain ⟨rfl, hF, hP, hD, hS⟩ := Fx.of (wf := fun _ => w0) (st := ((fun _ => 0), (fun _ => 0), (fun _ _ => 0), (fun _ _ => 0), (fun _ _ => none), [], fun _ => (0, 0, fun _ => 0))) hE hown B hml hv
  have hl := lv_entry As (n := nL) hn
  rw [lg_entry_eq]
  exact body p e s m below meth c _ _ hF hP hD hS ((name_of_methodNamed B.named B.method).1.trans hyn) hl
theorem x_nret {p : Program} {l : Launch} {e : Env} {R : Room} {s : State} {m : MethodId} {args : Array Value} {below : List Frame} {meth : Method} {c : Code} {H : Heap} {locs : List Loc} {mc ms : Nat} {cc : ByteArray} {nL : Nat} {own : String} {D : va_G} {d : Nat → ClassId} {E : State → Prop} {A : Nat → Prop} {wf : (Nat → Nat) → va_W} {pc : Nat} {ls : Array Slot} (ad : Nat → Nat)
    (F : Fx p s m args meth c cc nL own none D d E A) (hP : va_P D kcl (wf ad) H) (hD : va_D A (wf ad)) (hS : va_S A s.heap H locs) (hdg : decode cc pc = .ok (.return_, 1)) : W p l e R s m args below meth c H locs mc ms (QN below D d E wf A args s mc ms) (F0 m pc ls []) := by
  obtain ⟨hx, hb, hr, hml, hown, hts, hlk, hA, hK, hE⟩ := F
  exact W.vret hx hb hr (fun t ht hW => ⟨⟨ad, rfl, trivial, by rw [ht]; exact hP, KX.moved hE hW.alike hK, hD⟩, hS.F ht⟩) hS.2.2 hdg hlk
/-- a state of nothing -/
def st00 : CS := ((fun _ => 0), (fun _ => 0), (fun _ _ => 0), (fun _ _ => 0), (fun _ _ => none), [], fun _ => (0, 0, fun _ => 0))
end
