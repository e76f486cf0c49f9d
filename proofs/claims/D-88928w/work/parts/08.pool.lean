section
/-! THE POOL: lines (objects of four classes) and sheets, any number of them -/
theorem pool_at {o : Nat} {ad : Nat → Nat} {d : Nat → ClassId} {st : CS} {a : Nat} (ha : a ∈ sP st) : ∃ k : Nat, (wX o ad d st)[k]? = some (a, pE o d (sE st a)) := va_pl_get (X := wX0 o ad d st) (f := fun a => pE o d (sE st a)) ha
theorem pE_1 {o : Nat} {d : Nat → ClassId} {v : Nat × Nat × (Nat → Int32)} (h : v.1 = 1) : pE o d v = .inr (1, [.int (v.2.2 0), .int (v.2.2 1), .int (v.2.2 2), tv o (v.2.2 7)]) := by unfold pE; rw [h]; rfl
theorem pE_2 {o : Nat} {d : Nat → ClassId} {v : Nat × Nat × (Nat → Int32)} (h : v.1 = 2) : pE o d v = .inr (2, [.int (v.2.2 0), .int (v.2.2 1), .int (v.2.2 2), tv o (v.2.2 7), .int (v.2.2 3), tv o (v.2.2 8)]) := by unfold pE; rw [h]; rfl
theorem pE_3 {o : Nat} {d : Nat → ClassId} {v : Nat × Nat × (Nat → Int32)} (h : v.1 = 3) : pE o d v = .inr (3, [.int (v.2.2 0), .int (v.2.2 1), .int (v.2.2 2), tv o (v.2.2 7), .int (v.2.2 3), tv o (v.2.2 8)]) := by unfold pE; rw [h]; rfl
theorem pE_4 {o : Nat} {d : Nat → ClassId} {v : Nat × Nat × (Nat → Int32)} (h : v.1 = 4) : pE o d v = .inr (4, [.int (v.2.2 0), .int (v.2.2 1), .int (v.2.2 2), tv o (v.2.2 7), .int (v.2.2 3), tv o (v.2.2 8), .int (v.2.2 4), tv o (v.2.2 9)]) := by unfold pE; rw [h]; rfl
theorem pE_0 {o : Nat} {d : Nat → ClassId} {v : Nat × Nat × (Nat → Int32)} (h : v.1 = 0) : pE o d v = .inl (d 0, v.2.1, .inl v.2.2) := by unfold pE; rw [h]; rfl
/-- a line stands at a -/
def okE (st : CS) (a : Nat) : Prop := a ∈ sP st ∧ 1 ≤ (sE st a).1 ∧ (sE st a).1 ≤ 4
theorem okE.cases {st : CS} {a : Nat} (h : okE st a) : (sE st a).1 = 1 ∨ (sE st a).1 = 2 ∨ (sE st a).1 = 3 ∨ (sE st a).1 = 4 := by
  obtain ⟨-, h1, h2⟩ := h
  omega
/-- one int of an entry is written -/
def uF (s : CS) (a k : Nat) (v : Int32) : CS := uE s a ((sE s a).1, (sE s a).2.1, upd (sE s a).2.2 k v)
theorem sP_uF (s : CS) (a k : Nat) (v : Int32) : sP (uF s a k v) = sP s := rfl
theorem wX_uE {o : Nat} {ad : Nat → Nat} {d : Nat → ClassId} {st : CS} {A : Nat → Prop} {a k : Nat} {v : Nat × Nat × (Nat → Int32)} {e : va_E} (hD : va_D A (wX o ad d st)) (ha : a ∈ sP st) (hk : (wX o ad d st)[k]? = some (a, pE o d (sE st a))) (he : e = pE o d v) : (wX o ad d st).set k (a, e) = wX o ad d (uE st a v) := by
  have h := va_pl_set (X := wX0 o ad d st) (f := fun a => pE o d (sE st a)) (e := e) hD ha hk
  refine Eq.trans h ?_
  show wX0 o ad d st ++ _ = wX0 o ad d st ++ va_pl (sP st) (fun b => pE o d (sE (uE st a v) b))
  congr 1
  refine va_pl_congr (fun b => ?_)
  by_cases hb : b = a
  · subst hb
    simp [va_up, sE, uE, he]
  · simp [va_up, sE, uE, hb]
/-- a new entry joins the pool -/
theorem wX_uN {o : Nat} {ad : Nat → Nat} {d : Nat → ClassId} {st : CS} {A : Nat → Prop} {a : Nat} {v : Nat × Nat × (Nat → Int32)} {e : va_E} (hD : va_D A (wX o ad d st ++ [(a, e)])) (he : e = pE o d v) : wX o ad d st ++ [(a, e)] = wX o ad d (uN st a v) ∧ a ∉ sP st := by
  have hn : a ∉ sP st := by
    intro h
    obtain ⟨k, hk⟩ := pool_at (o := o) (ad := ad) (d := d) h
    have hl : k < (wX o ad d st).length := (List.getElem?_eq_some_iff.mp hk).1
    have := hD.1 k (wX o ad d st).length (a, pE o d (sE st a)) (a, e) (by rw [List.getElem?_append_left hl]; exact hk) (by simp) rfl
    omega
  refine ⟨?_, hn⟩
  show (wX0 o ad d st ++ va_pl (sP st) (fun b => pE o d (sE st b))) ++ [(a, e)] = wX0 o ad d st ++ va_pl (sP st ++ [a]) (fun b => pE o d (sE (uN st a v) b))
  rw [List.append_assoc]
  congr 1
  rw [va_pl_push (f := fun b => pE o d (sE st b)) hn]
  refine va_pl_congr (fun b => ?_)
  by_cases hb : b = a
  · subst hb
    simp [va_up, sE, uN, he]
  · simp [va_up, sE, uN, hb]
section
variable {p : Program} {l : Launch} {e : Env} {R : Room} {s : State} {m : MethodId} {args : Array Value} {below : List Frame} {meth : Method} {c : Code} {H : Heap} {locs : List Loc} {cells slots mc ms : Nat} {Q : State → Prop}
variable {cc : ByteArray} {nL : Nat} {own : String} {ret : Option FieldType} {D : va_G} {d : Nat → ClassId} {E : State → Prop} {A : Nat → Prop} {st : CS} {pc : Nat} {ls : Array Slot} {rest : List Value} {o : Nat} {ad : Nat → Nat}
/-- a field of a pooled object is read -/
theorem xP_get (F : Fx p s m args meth c cc nL own ret D d E A) (C : Cx D (wX o ad d) A s st H locs) {a ci k N index : Nat} {fs : List Value} {C0 ref : String} {T : u_T} {v : Value} (ha : a ∈ sP st) (hp : pE o d (sE st a) = .inr (ci, fs)) (hc : kcl[ci]? = some (C0, T, N)) (hin : ∀ w ∈ u_ws C0 T N, w ∈ lw_all)
    (hk : k < N) (hlink : (Cond.fieldLink own index ref (T k).2.1 (T k).2.2.1) ∈ lw_all) (hsame : ∀ x, s.fieldFound? (T k).1 (T k).2.1 (T k).2.2.1 = some x → s.fieldFound? ref (T k).2.1 (T k).2.2.1 = some x) (hv : fs[k]? = some v) (hdg : decode cc pc = .ok (.getfield index, 3))
    (kk : W p l e R s m args below meth c H locs cells slots Q (F0 m (pc + 3) ls (v :: rest))) : W p l e R s m args below meth c H locs cells slots Q (F0 m pc ls (.ref a :: rest)) := by
  obtain ⟨hx, hb, hr, hml, hown, hts, hlk, hA, hK, hE⟩ := F
  obtain ⟨q, hq⟩ := pool_at (o := o) (ad := ad) (d := d) ha
  rw [hp] at hq
  exact va_get (D := D) (ci := ci) (v := v) (C := C0) (T := T) (N := N) hx hb hts hin hown hK.1 C.1 q hq hc k hk (hts _ hlink) hsame hv hdg kk
/-- two final fields of one class's layout that different classes declare have different slots -/
theorem u_apart2 {C O f d O' f' d' : String} (h : (Cond.laysFinal C O f d).before args s = true) (h' : (Cond.laysFinal C O' f' d').before args s = true) {cf kf fi fd cf' kf' fi' fd'} (hi : s.fieldFound? O f d = some (cf, kf, fi, fd)) (hi' : s.fieldFound? O' f' d' = some (cf', kf', fi', fd')) (hne : O ≠ O') : fd.slot ≠ fd'.slot := by
  obtain ⟨a, _, _, _, _, g, ha, _, hg, _, _, _, hO, _, x, hd, hn, _, _⟩ := Cond.laysFinal_spec h
  cases hi.symm.trans hg
  obtain ⟨a', _, _, _, _, g', ha', _, hg', _, _, _, hO', _, x', hd', hn', _, _⟩ := Cond.laysFinal_spec h'
  cases hi'.symm.trans hg'
  cases ha.symm.trans ha'
  intro hs
  rw [hs] at hd
  cases hd.symm.trans hd'
  obtain ⟨k1, r1, r2⟩ := Vm.findClass_spec hO
  obtain ⟨k2, r3, r4⟩ := Vm.findClass_spec hO'
  have e1 := (State.fieldFound?_spec hi).1
  have e2 := (State.fieldFound?_spec hi').1
  cases r1.symm.trans e1
  cases r3.symm.trans e2
  exact hne (by rw [← r2, ← r4, ← hn, ← hn'])
/-- fields differ by name, or are final and of different classes -/
def nmP (T : u_T) (N : Nat) : Prop := ∀ a, a < N → ∀ b, b < N → a ≠ b → (T a).2.1 ≠ (T b).2.1 ∨ ((T a).1 ≠ (T b).1 ∧ (T a).2.2.2 = true ∧ (T b).2.2.2 = true)
theorem xP_apart {C : String} {T : u_T} {N ci : Nat} (hts : ∀ w ∈ lw_all, w.before args s = true) (hin : ∀ w ∈ u_ws C T N, w ∈ lw_all) (ty : Nat → FieldType) (hty : ∀ k, k < N → parseFieldDescriptor (T k).2.2.1 = some (ty k)) (hnm : nmP T N) (hK : va_K D kcl (kty d) s) (hc : kcl[ci]? = some (C, T, N)) : ∀ x y, x < N → y < N → x ≠ y → (D.2 ci) x ≠ (D.2 ci) y := by
  intro x y hx hy hne
  obtain ⟨hS, -⟩ := hK.1 ci _ hc
  obtain ⟨_, _, _, fa, hia, ea⟩ := hS x hx
  obtain ⟨_, _, _, fb, hib, eb⟩ := hS y hy
  rw [← ea, ← eb]
  rcases hnm x hx y hy hne with h | ⟨h, h1, h2⟩
  · refine u_apart (u_lays hts hin hx) (u_lays hts hin hy) hia hib ?_
    rw [(State.fieldFound?_type hia (hty x hx)).1, (State.fieldFound?_type hib (hty y hy)).1]
    exact h
  · have l1 := hts _ (hin _ (u_in_lay hx))
    have l2 := hts _ (hin _ (u_in_lay hy))
    unfold u_lay at l1 l2
    rw [if_pos h1] at l1
    rw [if_pos h2] at l2
    exact u_apart2 l1 l2 hia hib h
/-- a field of a pooled object is written -/
theorem xP_put (F : Fx p s m args meth c cc nL own ret D d E A) (C : Cx D (wX o ad d) A s st H locs) {a ci k N index kf : Nat} {fs : List Value} {C0 ref : String} {T : u_T} {v : Value} {x : Int32} {ty0 : Nat → FieldType} {ty : FieldType} (ha : a ∈ sP st) (hp : pE o d (sE st a) = .inr (ci, fs)) (hc : kcl[ci]? = some (C0, T, N)) (hin : ∀ w ∈ u_ws C0 T N, w ∈ lw_all)
    (hty : ∀ k, k < N → parseFieldDescriptor (T k).2.2.1 = some (ty0 k)) (hnm : nmP T N) (hk : k < N) (hlink : (Cond.fieldLink own index ref (T k).2.1 (T k).2.2.1) ∈ lw_all) (hsame : ∀ x, s.fieldFound? (T k).1 (T k).2.1 (T k).2.2.1 = some x → s.fieldFound? ref (T k).2.1 (T k).2.2.1 = some x) (hfin : (T k).2.2.2 = false)
    (hd : parseFieldDescriptor (T k).2.2.1 = some ty) (hn : narrow ty v = v) (hfit : fits ty v = true) (hl : k < fs.length) (hset : (.inr (ci, fs.set k v) : va_E) = pE o d ((sE st a).1, (sE st a).2.1, upd (sE st a).2.2 kf x)) (hdg : decode cc pc = .ok (.putfield index, 3))
    (kk : ∀ (H1 : Heap) (locs1 : List Loc) (st1 : CS), st1 = uF st a kf x → Cx D (wX o ad d) A s st1 H1 locs1 → W p l e R s m args below meth c H1 locs1 cells slots Q (F0 m (pc + 3) ls rest)) : W p l e R s m args below meth c H locs cells slots Q (F0 m pc ls (v :: .ref a :: rest)) := by
  obtain ⟨hx, hb, hr, hml, hown, hts, hlk, hA, hK, hE⟩ := F
  obtain ⟨hP, hD, hS0⟩ := C
  obtain ⟨q0, he⟩ := pool_at (o := o) (ad := ad) (d := d) ha
  have hs := wX_uE (v := ((sE st a).1, (sE st a).2.1, upd (sE st a).2.2 kf x)) hD ha he hset
  rw [hp] at he
  have hap := xP_apart hts hin ty0 hty hnm hK.1 hc
  obtain ⟨r, h1, cell, q1, q2, q3, q4⟩ := hP q0 _ he
  have hr : r = (C0, T, N) := Option.some.inj (h1.symm.trans hc)
  subst hr
  obtain ⟨hS, hfc, kC, hkC, hkind⟩ := hK.1.1 ci _ hc
  obtain ⟨cf, kf0, fi, f, hi, hsl⟩ := hS k hk
  have hlay := hts _ (hin _ (u_in_lay hk))
  unfold u_lay at hlay
  rw [if_neg (by rw [hfin]; decide)] at hlay
  have hst := (u_facts hfc hkC (u_lays hts hin hk) hi).1
  have h6 := u_store hfc hkC hkind hlay hi hd hn hfit
  refine W.putK hx hb (f := f) ⟨hown, hts _ hlink, ⟨_, _, _, hsame _ hi⟩, hst⟩ (by rw [q2]; exact h6) q1 q3 (by rw [hsl]; exact k2_hasslot (q4 k hk)) rfl rfl hdg fun H' e1 e2 e3 => ?_
  rw [hsl] at e1 ⊢
  have hP' := hP.set hD he (e := .inr (ci, fs.set k v)) ⟨_, hc, t_OB.to (V := updV (vp_V fs) k v) ⟨_, e1, q2, q3, t_set q4 hap hk v⟩ (fun j _ => vp_updV_set hl v j)⟩ e3
  have hD' : va_D A ((wX o ad d st).set q0 (a, .inr (ci, fs.set k v))) := hD.set he
  rw [hs] at hP' hD'
  exact kk H' _ _ rfl ⟨hP', hD', hS0.put e2 e3 (hD.2 q0 _ he)⟩
/-- a final field of a pooled object is written, in a constructor of the class that declares it -/
theorem xP_putF (F : Fx p s m args meth c cc nL own ret D d E A) (C : Cx D (wX o ad d) A s st H locs) (hin2 : meth.name = "<init>") {a ci k N index kf : Nat} {fs : List Value} {C0 : String} {T : u_T} {v : Value} {x : Int32} {ty0 : Nat → FieldType} {ty : FieldType} (ha : a ∈ sP st) (hp : pE o d (sE st a) = .inr (ci, fs)) (hc : kcl[ci]? = some (C0, T, N)) (hin : ∀ w ∈ u_ws C0 T N, w ∈ lw_all)
    (hty : ∀ k, k < N → parseFieldDescriptor (T k).2.2.1 = some (ty0 k)) (hnm : nmP T N) (hk : k < N) (hlink : (Cond.fieldLink own index own (T k).2.1 (T k).2.2.1) ∈ lw_all) (hdecl : (T k).1 = own) (hfin : (T k).2.2.2 = true)
    (hd : parseFieldDescriptor (T k).2.2.1 = some ty) (hn : narrow ty v = v) (hfit : fits ty v = true) (hl : k < fs.length) (hset : (.inr (ci, fs.set k v) : va_E) = pE o d ((sE st a).1, (sE st a).2.1, upd (sE st a).2.2 kf x)) (hdg : decode cc pc = .ok (.putfield index, 3))
    (kk : ∀ (H1 : Heap) (locs1 : List Loc) (st1 : CS), st1 = uF st a kf x → Cx D (wX o ad d) A s st1 H1 locs1 → W p l e R s m args below meth c H1 locs1 cells slots Q (F0 m (pc + 3) ls rest)) : W p l e R s m args below meth c H locs cells slots Q (F0 m pc ls (v :: .ref a :: rest)) := by
  obtain ⟨hx, hb, hr, hml, hown, hts, hlk, hA, hK, hE⟩ := F
  obtain ⟨hP, hD, hS0⟩ := C
  obtain ⟨q0, he⟩ := pool_at (o := o) (ad := ad) (d := d) ha
  have hs := wX_uE (v := ((sE st a).1, (sE st a).2.1, upd (sE st a).2.2 kf x)) hD ha he hset
  rw [hp] at he
  have hap := xP_apart hts hin ty0 hty hnm hK.1 hc
  obtain ⟨r, h1, cell, q1, q2, q3, q4⟩ := hP q0 _ he
  have hr : r = (C0, T, N) := Option.some.inj (h1.symm.trans hc)
  subst hr
  obtain ⟨hS, hfc, kC, hkC, hkind⟩ := hK.1.1 ci _ hc
  obtain ⟨cf, kf0, fi, f, hi, hsl⟩ := hS k hk
  have hlay := hts _ (hin _ (u_in_lay hk))
  unfold u_lay at hlay
  rw [if_pos hfin] at hlay
  have hst := (u_facts hfc hkC (u_lays hts hin hk) hi).1
  have hcf : m.cls = cf := by
    obtain ⟨_, _, c', _, _, _, -, -, hf', -, -, -, hown2, -⟩ := Cond.laysFinal_spec hlay
    have e1 : c' = cf := by have := hi.symm.trans hf'; simp at this; exact this.1.symm
    rw [hdecl] at hown2
    rw [← e1]; exact Option.some.inj (hown.symm.trans hown2)
  have h6 := u_fits hfc hkC hkind (Or.inr hlay) hi hd hn hfit
  refine W.putFinK hx hb hown (hts _ hlink) (by rw [← hdecl]; exact hi) hst hcf hin2 (by rw [q2]; exact h6) q1 q3 (by rw [hsl]; exact k2_hasslot (q4 k hk)) rfl rfl hdg fun H' e1 e2 e3 => ?_
  rw [hsl] at e1 ⊢
  have hP' := hP.set hD he (e := .inr (ci, fs.set k v)) ⟨_, hc, t_OB.to (V := updV (vp_V fs) k v) ⟨_, e1, q2, q3, t_set q4 hap hk v⟩ (fun j _ => vp_updV_set hl v j)⟩ e3
  have hD' : va_D A ((wX o ad d st).set q0 (a, .inr (ci, fs.set k v))) := hD.set he
  rw [hs] at hP' hD'
  exact kk H' _ _ rfl ⟨hP', hD', hS0.put e2 e3 (hD.2 q0 _ he)⟩
theorem xP_recv (F : Fx p s m args meth c cc nL own ret D d E A) (C : Cx D (wX o ad d) A s st H locs) {a ci : Nat} {fs : List Value} {q : vw_C} (ha : a ∈ sP st) (hp : pE o d (sE st a) = .inr (ci, fs)) (hc : kcl[ci]? = some q) : ∃ cell : Cell, H[a]? = some cell ∧ cell.vm.isStatics = false ∧ s.vm.findClass q.1 = some cell.cls := by
  obtain ⟨k, hk⟩ := pool_at (o := o) (ad := ad) (d := d) ha
  rw [hp] at hk
  exact va_recv F.2.2.2.2.2.2.2.2.1.1 C.1 hc hk
/-- a line out of the array of lines -/
theorem x0_ldL (F : Fx p s m args meth c cc nL own ret D d E A) (C : Cx D (wX o ad d) A s st H locs) {i : Int32} {a : Nat} (hin : vp_in i 40) (ha : sR st 10 i.toNatClampNeg = some a) (hdg : decode cc pc = .ok (.aaload, 1)) (kk : W p l e R s m args below meth c H locs cells slots Q (F0 m (pc + 1) ls (.ref a :: rest))) : W p l e R s m args below meth c H locs cells slots Q (F0 m pc ls (.int i :: .ref (ad 10) :: rest)) := by
  obtain ⟨hx, hb, hr, hml, hown, hts, hlk, hA, hK, hE⟩ := F
  refine va_aldq (f := sR st 10) hx hb hK.1 C.1 5 3 rfl rfl hin hdg ?_
  rw [ha]
  exact kk
theorem x0_gL0 (F : Fx p s m args meth c cc nL RX0 ret D d E A) (C : Cx D (wX o ad d) A s st H locs) {a : Nat} (ha : okE st a) (hdg : decode cc pc = .ok (.getfield 151, 3)) (kk : W p l e R s m args below meth c H locs cells slots Q (F0 m (pc + 3) ls (.int ((sE st a).2.2 0) :: rest))) : W p l e R s m args below meth c H locs cells slots Q (F0 m pc ls (.ref a :: rest)) := by
  rcases ha.cases with h | h | h | h
  · exact xP_get F C ha.1 (pE_1 h) rfl in_X2 (k := 0) (by decide) q279 (fun _ h9 => h9) rfl hdg kk
  · exact xP_get F C ha.1 (pE_2 h) rfl in_X3 (k := 0) (by decide) q279 (fun _ h9 => h9) rfl hdg kk
  · exact xP_get F C ha.1 (pE_3 h) rfl in_X4 (k := 0) (by decide) q279 (fun _ h9 => h9) rfl hdg kk
  · exact xP_get F C ha.1 (pE_4 h) rfl in_X5 (k := 0) (by decide) q279 (fun _ h9 => h9) rfl hdg kk
theorem x0_gL1 (F : Fx p s m args meth c cc nL RX0 ret D d E A) (C : Cx D (wX o ad d) A s st H locs) {a : Nat} (ha : okE st a) (hdg : decode cc pc = .ok (.getfield 154, 3)) (kk : W p l e R s m args below meth c H locs cells slots Q (F0 m (pc + 3) ls (.int ((sE st a).2.2 1) :: rest))) : W p l e R s m args below meth c H locs cells slots Q (F0 m pc ls (.ref a :: rest)) := by
  rcases ha.cases with h | h | h | h
  · exact xP_get F C ha.1 (pE_1 h) rfl in_X2 (k := 1) (by decide) q283 (fun _ h9 => h9) rfl hdg kk
  · exact xP_get F C ha.1 (pE_2 h) rfl in_X3 (k := 1) (by decide) q283 (fun _ h9 => h9) rfl hdg kk
  · exact xP_get F C ha.1 (pE_3 h) rfl in_X4 (k := 1) (by decide) q283 (fun _ h9 => h9) rfl hdg kk
  · exact xP_get F C ha.1 (pE_4 h) rfl in_X5 (k := 1) (by decide) q283 (fun _ h9 => h9) rfl hdg kk
theorem x0_gL2 (F : Fx p s m args meth c cc nL RX0 ret D d E A) (C : Cx D (wX o ad d) A s st H locs) {a : Nat} (ha : okE st a) (hdg : decode cc pc = .ok (.getfield 147, 3)) (kk : W p l e R s m args below meth c H locs cells slots Q (F0 m (pc + 3) ls (.int ((sE st a).2.2 2) :: rest))) : W p l e R s m args below meth c H locs cells slots Q (F0 m pc ls (.ref a :: rest)) := by
  rcases ha.cases with h | h | h | h
  · exact xP_get F C ha.1 (pE_1 h) rfl in_X2 (k := 2) (by decide) q286 (fun _ h9 => h9) rfl hdg kk
  · exact xP_get F C ha.1 (pE_2 h) rfl in_X3 (k := 2) (by decide) q286 (fun _ h9 => h9) rfl hdg kk
  · exact xP_get F C ha.1 (pE_3 h) rfl in_X4 (k := 2) (by decide) q286 (fun _ h9 => h9) rfl hdg kk
  · exact xP_get F C ha.1 (pE_4 h) rfl in_X5 (k := 2) (by decide) q286 (fun _ h9 => h9) rfl hdg kk
end
end
