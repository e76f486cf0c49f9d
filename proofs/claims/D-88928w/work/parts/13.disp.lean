section
set_option maxRecDepth 100000
theorem lw_U {own : String} {idx : Nat} {C owner : String} {x y : MethodName} {b : ByteArray} {L : Nat} {r : Option FieldType} (h1 : Cond.methodLink own idx x ∈ lw_all) (h2 : Cond.sameMethod x.cls owner x.name x.desc ∈ lw_all) (h4 : Cond.selects C x y ∈ lw_all) (h5 : Cond.instanceMethod y ∈ lw_all) (h6 : Cond.initialized y.cls ∈ lw_all) (h7 : Cond.code y b L r ∈ lw_all) : GoodIn lw_all (va_wsU own idx C owner x y (ws_ y b L r)) := by
  refine lw_app ?_ (lw_meth h7)
  intro w hw
  simp only [List.mem_cons, List.not_mem_nil, or_false] at hw
  rcases hw with e | e | e | e | e
  · rw [e]; exact h1
  · rw [e]; exact h2
  · rw [e]; exact h4
  · rw [e]; exact h5
  · rw [e]; exact h6
theorem lw_F {own : String} {idx : Nat} {C : String} {x y : MethodName} {b : ByteArray} {L : Nat} {r : Option FieldType} (h1 : Cond.methodLink own idx x ∈ lw_all) (h4 : Cond.selects C x y ∈ lw_all) (h5 : Cond.instanceMethod y ∈ lw_all) (h6 : Cond.initialized y.cls ∈ lw_all) (h7 : Cond.code y b L r ∈ lw_all) : GoodIn lw_all (va_wsF own idx C x y (ws_ y b L r)) := by
  refine lw_app ?_ (lw_meth h7)
  intro w hw
  simp only [List.mem_cons, List.not_mem_nil, or_false] at hw
  rcases hw with e | e | e | e
  · rw [e]; exact h1
  · rw [e]; exact h4
  · rw [e]; exact h5
  · rw [e]; exact h6
def kindC (k : Nat) : Int32 := if k = 1 then 0 else if k = 2 then 1 else if k = 3 then 3 else 2
def openC (k : Nat) (x : Int32) : Int32 := if k = 2 then (if x = 0 then 1 else 0) else 0
def markC (k : Nat) (f : Nat → Int32) : Int32 := if k = 1 then -9 else if k = 4 then f 4 else f 3
def cntC (k : Nat) (f : Nat → Int32) (b y : Int32) : Int32 := if k = 3 then (if b = 0 then 0 else if y < f 3 then 0 else 1) else 1
section
variable {p : Program} {l : Launch} {e : Env} {R : Room} {s : State} {m : MethodId} {args : Array Value} {below : List Frame} {meth : Method} {c : Code} {H : Heap} {locs : List Loc} {cells slots mc ms : Nat} {Q : State → Prop}
variable {cc : ByteArray} {nL : Nat} {own : String} {ret : Option FieldType} {D : va_G} {d : Nat → ClassId} {E : State → Prop} {A : Nat → Prop} {wf : CS → va_W} {st : CS} {pc : Nat} {ls : Array Slot} {rest : List Value} {o : Nat} {ad : Nat → Nat}

theorem x0_kind (F : Fx p s m args meth c cc nL RX0 ret D d E A) (C : Cx D (wX o ad d) A s st H locs) {a : Nat} (ha : okE st a) (hR : 3 ≤ R.frames ∧ 60 ≤ R.locals) (hsz : ls.size = nL) (hW : (rest.map fun v => v.category).sum ≤ 8) (hdg : decode cc pc = .ok (.invokevirtual 172, 3)) (hf : cells ≤ R.cells ∧ slots ≤ R.slots)
    (kk : ∀ (H1 : Heap) (locs1 : List Loc), Cx D (wX o ad d) A s st H1 locs1 → W p l e R s m args below meth c H1 locs1 cells slots Q (F0 m (pc + 3) ls (.int (kindC (sE st a).1) :: rest))) : W p l e R s m args below meth c H locs cells slots Q (F0 m pc ls (.ref a :: rest)) := by
  have F' := F
  obtain ⟨hx, hb, hr, hml, hown, hts, hlk, hA, hK, hE⟩ := F'
  rcases ha.cases with h | h | h | h
  · exact x_callPV (q := (RX2, TX2, 4)) (rest := rest) F C ha.1 (pE_1 h) rfl (ctX2_kind_c1 hE (show wpX2_kind_c1 (fun r st1 => r = kindC (sE st a).1 ∧ st1 = st) st a from ⟨by rw [h]; rfl, rfl⟩)) (cwV 0 hts (lw_V q344 q345 q346 q72 q360) rfl rfl rfl (by decide +kernel) ⟨Nat.le_trans (Nat.le_of_ble_eq_true rfl) hR.1, Nat.le_trans (Nat.le_of_ble_eq_true rfl) hR.2⟩) rfl hsz rfl hW hdg hf (fun r st1 H1 locs1 hq C1 => by obtain ⟨rfl, rfl⟩ := hq; exact kk H1 locs1 C1)
  · exact x_callPU (x := yX2_kind) (owner := RX2) (q := (RX3, TX3, 6)) (rest := rest) F C ha.1 (pE_2 h) rfl (ctX3_kind_c2 hE (show wpX3_kind_c2 (fun r st1 => r = kindC (sE st a).1 ∧ st1 = st) st a from ⟨⟨ha.1, h⟩, by rw [h]; rfl, rfl⟩)) (va_cwO (owner := RX2) 0 hts (lw_O q344 q347 q345 q351 q352 q73 q353) rfl rfl rfl q360 (by decide +kernel) ⟨Nat.le_trans (Nat.le_of_ble_eq_true rfl) hR.1, Nat.le_trans (Nat.le_of_ble_eq_true rfl) hR.2⟩) rfl hsz rfl hW hdg hf (fun r st1 H1 locs1 hq C1 => by obtain ⟨rfl, rfl⟩ := hq; exact kk H1 locs1 C1)
  · exact x_callPU (x := yX2_kind) (owner := RX2) (q := (RX4, TX4, 6)) (rest := rest) F C ha.1 (pE_3 h) rfl (ctX4_kind_c3 hE (show wpX4_kind_c3 (fun r st1 => r = kindC (sE st a).1 ∧ st1 = st) st a from ⟨by rw [h]; rfl, rfl⟩)) (va_cwO (owner := RX2) 0 hts (lw_O q344 q347 q345 q348 q349 q74 q350) rfl rfl rfl q360 (by decide +kernel) ⟨Nat.le_trans (Nat.le_of_ble_eq_true rfl) hR.1, Nat.le_trans (Nat.le_of_ble_eq_true rfl) hR.2⟩) rfl hsz rfl hW hdg hf (fun r st1 H1 locs1 hq C1 => by obtain ⟨rfl, rfl⟩ := hq; exact kk H1 locs1 C1)
  · exact x_callPU (x := yX2_kind) (owner := RX2) (q := (RX5, TX5, 8)) (rest := rest) F C ha.1 (pE_4 h) rfl (ctX5_kind_c4 hE (show wpX5_kind_c4 (fun r st1 => r = kindC (sE st a).1 ∧ st1 = st) st a from ⟨⟨ha.1, h⟩, ⟨ha.1, h⟩, by rw [h]; rfl, rfl⟩)) (va_cwO (owner := RX2) 0 hts (lw_O q344 q347 q345 q355 q356 q80 q357) rfl rfl rfl q360 (by decide +kernel) ⟨Nat.le_trans (Nat.le_of_ble_eq_true rfl) hR.1, Nat.le_trans (Nat.le_of_ble_eq_true rfl) hR.2⟩) rfl hsz rfl hW hdg hf (fun r st1 H1 locs1 hq C1 => by obtain ⟨rfl, rfl⟩ := hq; exact kk H1 locs1 C1)
theorem x0_isOpen (F : Fx p s m args meth c cc nL RX0 ret D d E A) (C : Cx D (wX o ad d) A s st H locs) {a : Nat} (ha : okE st a) (hR : 1 ≤ R.frames ∧ 20 ≤ R.locals) (hsz : ls.size = nL) (hW : (rest.map fun v => v.category).sum ≤ 8) (hdg : decode cc pc = .ok (.invokevirtual 298, 3)) (hf : cells ≤ R.cells ∧ slots ≤ R.slots)
    (kk : ∀ (H1 : Heap) (locs1 : List Loc), Cx D (wX o ad d) A s st H1 locs1 → W p l e R s m args below meth c H1 locs1 cells slots Q (F0 m (pc + 3) ls (.int (openC (sE st a).1 ((sE st a).2.2 2)) :: rest))) : W p l e R s m args below meth c H locs cells slots Q (F0 m pc ls (.ref a :: rest)) := by
  have F' := F
  obtain ⟨hx, hb, hr, hml, hown, hts, hlk, hA, hK, hE⟩ := F'
  rcases ha.cases with h | h | h | h
  · exact x_callPV (q := (RX2, TX2, 4)) (rest := rest) F C ha.1 (pE_1 h) rfl (ctX2_isOpen_c1 hE (show wpX2_isOpen_c1 (fun r st1 => r = openC (sE st a).1 ((sE st a).2.2 2) ∧ st1 = st) st a from ⟨by rw [h]; rfl, rfl⟩)) (cwV 0 hts (lw_V q640 q641 q642 q72 q651) rfl rfl rfl (by decide +kernel) ⟨Nat.le_trans (Nat.le_of_ble_eq_true rfl) hR.1, Nat.le_trans (Nat.le_of_ble_eq_true rfl) hR.2⟩) rfl hsz rfl hW hdg hf (fun r st1 H1 locs1 hq C1 => by obtain ⟨rfl, rfl⟩ := hq; exact kk H1 locs1 C1)
  · exact x_callPU (x := yX2_isOpen) (owner := RX2) (q := (RX3, TX3, 6)) (rest := rest) F C ha.1 (pE_2 h) rfl (ctX3_isOpen_c2 hE (show wpX3_isOpen_c2 (fun r st1 => r = openC (sE st a).1 ((sE st a).2.2 2) ∧ st1 = st) st a from ⟨⟨ha.1, h⟩, fun c => ⟨by rw [h]; simp [openC, c], rfl⟩, fun c => ⟨by rw [h]; simp [openC, c], rfl⟩⟩)) (va_cwO (owner := RX2) 0 hts (lw_O q640 q643 q641 q645 q646 q73 q647) rfl rfl rfl q651 (by decide +kernel) ⟨Nat.le_trans (Nat.le_of_ble_eq_true rfl) hR.1, Nat.le_trans (Nat.le_of_ble_eq_true rfl) hR.2⟩) rfl hsz rfl hW hdg hf (fun r st1 H1 locs1 hq C1 => by obtain ⟨rfl, rfl⟩ := hq; exact kk H1 locs1 C1)
  · exact x_callPU (x := yX2_isOpen) (owner := RX2) (q := (RX4, TX4, 6)) (rest := rest) F C ha.1 (pE_3 h) rfl (ctX2_isOpen_c3 hE (show wpX2_isOpen_c3 (fun r st1 => r = openC (sE st a).1 ((sE st a).2.2 2) ∧ st1 = st) st a from ⟨by rw [h]; rfl, rfl⟩)) (va_cwU (owner := RX2) 0 hts (lw_U q640 q643 q644 q641 q72 q651) rfl rfl rfl rfl (by decide +kernel) ⟨Nat.le_trans (Nat.le_of_ble_eq_true rfl) hR.1, Nat.le_trans (Nat.le_of_ble_eq_true rfl) hR.2⟩) rfl hsz rfl hW hdg hf (fun r st1 H1 locs1 hq C1 => by obtain ⟨rfl, rfl⟩ := hq; exact kk H1 locs1 C1)
  · exact x_callPU (x := yX2_isOpen) (owner := RX2) (q := (RX5, TX5, 8)) (rest := rest) F C ha.1 (pE_4 h) rfl (ctX5_isOpen_c4 hE (show wpX5_isOpen_c4 (fun r st1 => r = openC (sE st a).1 ((sE st a).2.2 2) ∧ st1 = st) st a from ⟨by rw [h]; rfl, rfl⟩)) (va_cwO (owner := RX2) 0 hts (lw_O q640 q643 q641 q648 q649 q80 q650) rfl rfl rfl q651 (by decide +kernel) ⟨Nat.le_trans (Nat.le_of_ble_eq_true rfl) hR.1, Nat.le_trans (Nat.le_of_ble_eq_true rfl) hR.2⟩) rfl hsz rfl hW hdg hf (fun r st1 H1 locs1 hq C1 => by obtain ⟨rfl, rfl⟩ := hq; exact kk H1 locs1 C1)
theorem x0_mark (F : Fx p s m args meth c cc nL RX0 ret D d E A) (C : Cx D (wX o ad d) A s st H locs) {a : Nat} (ha : okE st a) (hR : 1 ≤ R.frames ∧ 20 ≤ R.locals) (hsz : ls.size = nL) (hW : (rest.map fun v => v.category).sum ≤ 8) (hdg : decode cc pc = .ok (.invokevirtual 321, 3)) (hf : cells ≤ R.cells ∧ slots ≤ R.slots)
    (kk : ∀ (H1 : Heap) (locs1 : List Loc), Cx D (wX o ad d) A s st H1 locs1 → W p l e R s m args below meth c H1 locs1 cells slots Q (F0 m (pc + 3) ls (.int (markC (sE st a).1 (sE st a).2.2) :: rest))) : W p l e R s m args below meth c H locs cells slots Q (F0 m pc ls (.ref a :: rest)) := by
  have F' := F
  obtain ⟨hx, hb, hr, hml, hown, hts, hlk, hA, hK, hE⟩ := F'
  rcases ha.cases with h | h | h | h
  · exact x_callPV (q := (RX2, TX2, 4)) (rest := rest) F C ha.1 (pE_1 h) rfl (ctX2_mark_c1 hE (show wpX2_mark_c1 (fun r st1 => r = markC (sE st a).1 (sE st a).2.2 ∧ st1 = st) st a from ⟨by rw [h]; rfl, rfl⟩)) (cwV 0 hts (lw_V q690 q691 q692 q72 q697) rfl rfl rfl (by decide +kernel) ⟨Nat.le_trans (Nat.le_of_ble_eq_true rfl) hR.1, Nat.le_trans (Nat.le_of_ble_eq_true rfl) hR.2⟩) rfl hsz rfl hW hdg hf (fun r st1 H1 locs1 hq C1 => by obtain ⟨rfl, rfl⟩ := hq; exact kk H1 locs1 C1)
  · exact x_callPU (x := yX2_mark) (owner := RX2) (q := (RX3, TX3, 6)) (rest := rest) F C ha.1 (pE_2 h) rfl (ctX3_mark_c2 hE (show wpX3_mark_c2 (fun r st1 => r = markC (sE st a).1 (sE st a).2.2 ∧ st1 = st) st a from ⟨⟨ha.1, h⟩, by rw [h]; rfl, rfl⟩)) (va_cwO (owner := RX2) 0 hts (lw_O q690 q693 q691 q695 q457 q73 q458) rfl rfl rfl q697 (by decide +kernel) ⟨Nat.le_trans (Nat.le_of_ble_eq_true rfl) hR.1, Nat.le_trans (Nat.le_of_ble_eq_true rfl) hR.2⟩) rfl hsz rfl hW hdg hf (fun r st1 H1 locs1 hq C1 => by obtain ⟨rfl, rfl⟩ := hq; exact kk H1 locs1 C1)
  · exact x_callPU (x := yX2_mark) (owner := RX2) (q := (RX4, TX4, 6)) (rest := rest) F C ha.1 (pE_3 h) rfl (ctX4_mark_c3 hE (show wpX4_mark_c3 (fun r st1 => r = markC (sE st a).1 (sE st a).2.2 ∧ st1 = st) st a from ⟨⟨ha.1, h⟩, by rw [h]; rfl, rfl⟩)) (va_cwO (owner := RX2) 0 hts (lw_O q690 q693 q691 q694 q464 q74 q466) rfl rfl rfl q697 (by decide +kernel) ⟨Nat.le_trans (Nat.le_of_ble_eq_true rfl) hR.1, Nat.le_trans (Nat.le_of_ble_eq_true rfl) hR.2⟩) rfl hsz rfl hW hdg hf (fun r st1 H1 locs1 hq C1 => by obtain ⟨rfl, rfl⟩ := hq; exact kk H1 locs1 C1)
  · exact x_callPU (x := yX2_mark) (owner := RX2) (q := (RX5, TX5, 8)) (rest := rest) F C ha.1 (pE_4 h) rfl (ctX5_mark_c4 hE (show wpX5_mark_c4 (fun r st1 => r = markC (sE st a).1 (sE st a).2.2 ∧ st1 = st) st a from ⟨⟨ha.1, h⟩, by rw [h]; rfl, rfl⟩)) (va_cwO (owner := RX2) 0 hts (lw_O q690 q693 q691 q696 q460 q80 q461) rfl rfl rfl q697 (by decide +kernel) ⟨Nat.le_trans (Nat.le_of_ble_eq_true rfl) hR.1, Nat.le_trans (Nat.le_of_ble_eq_true rfl) hR.2⟩) rfl hsz rfl hW hdg hf (fun r st1 H1 locs1 hq C1 => by obtain ⟨rfl, rfl⟩ := hq; exact kk H1 locs1 C1)
theorem x0_counts (hX : ∀ U, E U → EL U) (F : Fx p s m args meth c cc nL RX0 ret D d E A) (C : Cx D (wX o ad d) A s st H locs) {a count : Nat} {b y : Int32} (ha : okE st a) (hR : 1 ≤ R.frames ∧ 22 ≤ R.locals) (hsz : ls.size = nL) (hW : (rest.map fun v => v.category).sum ≤ 8) (hdg : decode cc pc = .ok (.invokeinterface 216 count, 5)) (hf : cells ≤ R.cells ∧ slots ≤ R.slots)
    (kk : ∀ (H1 : Heap) (locs1 : List Loc), Cx D (wX o ad d) A s st H1 locs1 → W p l e R s m args below meth c H1 locs1 cells slots Q (F0 m (pc + 5) ls (.int (cntC (sE st a).1 (sE st a).2.2 b y) :: rest))) : W p l e R s m args below meth c H locs cells slots Q (F0 m pc ls (.int y :: .int b :: .ref a :: rest)) := by
  have F' := F
  obtain ⟨hx, hb, hr, hml, hown, hts, hlk, hA, hK, hE⟩ := F'
  obtain ⟨-, -, -, -, f2, f3, f5, f4, l2, l3, l5⟩ := hX s hK.2
  have df : ∀ {ci : Nat} {fs : List Value} {q : vw_C}, pE o d (sE st a) = .inr (ci, fs) → kcl[ci]? = some q → va_Fw q.1 yX6_counts yX6_counts s → Sel q.1 yX6_counts yX6_counts s → cntC (sE st a).1 (sE st a).2.2 b y = 1 → W p l e R s m args below meth c H locs cells slots Q (F0 m pc ls (.int y :: .int b :: .ref a :: rest)) := by
    intro ci fs q hp hc hF hS hv
    intro T hT X
    obtain ⟨cellB, hcB, hoB, hclB⟩ := xP_recv F C ha.1 hp hc
    obtain ⟨hfc, kB, hkB, -⟩ := xP_class F hc
    have e9 : cellB.cls = D.1 ci := (Option.some.inj (hfc.symm.trans hclB)).symm
    obtain ⟨vm₁, X₁, stp⟩ := x_callIFD X hx hown (hts _ q541) hF hS (hts _ q552) (hts _ q554) (by rw [hT]; exact hcB) hoB hclB (by rw [e9]; exact hkB) (g := F0 m pc ls (.int y :: .int b :: .ref a :: rest)) rfl (hsz.trans hml.symm) (rest := rest) hR.1 (by have h22 := hR.2; show 2 * 0 + _ + 14 ≤ _; omega) rfl (by rw [hb]; exact hdg)
    have K := kk H locs C
    rw [hv] at K
    obtain ⟨t, a1, b1⟩ := K (T.setVm vm₁) hT X₁
    exact ⟨t, stp t a1, b1⟩
  rcases ha.cases with h | h | h | h
  · exact df (pE_1 h) rfl f2 l2 (by rw [h]; rfl)
  · exact df (pE_2 h) rfl f3 l3 (by rw [h]; rfl)
  · refine va_callFi (va_runF (x := yX6_counts) (y := yX4_counts) (Ts := lw_all) (As := [.int b, .int y]) (rest := rest) (xP_class F (ci := 3) (q := (RX4, TX4, 6)) rfl) ⟨hx, hb, hml, hown, hts⟩ (ctX4_counts_c3 (a := a) (p0 := b) (p1 := y) (post := fun r st1 => r = cntC (sE st a).1 (sE st a).2.2 b y ∧ st1 = st) hE ⟨fun c => ⟨by rw [h]; simp [cntC, c], rfl⟩, fun c => ⟨⟨ha.1, h⟩, fun c2 => ⟨by rw [h]; simp [cntC, c, c2], rfl⟩, fun c2 => ⟨by rw [h]; simp [cntC, c, c2], rfl⟩⟩⟩ H.size) (va_cwF 2 hts (lw_F q541 q545 q547 q74 q549) rfl rfl rfl f4 (by decide +kernel) ⟨Nat.le_trans (Nat.le_of_ble_eq_true rfl) hR.1, Nat.le_trans (Nat.le_of_ble_eq_true rfl) hR.2⟩) ⟨PX.blind hE, xP_recv F C (q := (RX4, TX4, 6)) ha.1 (pE_3 h) rfl, PX.at F C⟩ rfl rfl hsz rfl (by simpa [JFrame.monitorRoom] using hW) hdg hf) C.2.2 (fun q _ h => Cx.free F C q h) (Cx.free F C) (fun r u t H1 locs1 ht hvm hw hB hz hk hS => ?_)
    obtain ⟨rfl, rfl⟩ := hw
    exact kk H1 locs1 (Cx.back F C ht hB hS)
  · exact df (pE_4 h) rfl f5 l5 (by rw [h]; rfl)
theorem zb_cases {v : Int32} (h : zb v) : v = 0 ∨ v = 1 := by
  have h1 : v &&& 1 = v := by
    have : Value.int (v &&& 1) = Value.int v := h
    exact Value.int.inj this
  obtain ⟨j, hj, e⟩ := pk_andE v (m := 1) 1 (by decide)
  rw [h1] at e
  rcases (show j = 0 ∨ j = 1 by omega) with rfl | rfl
  · exact Or.inl e
  · exact Or.inr e
theorem x0_pL2 (F : Fx p s m args meth c cc nL RX0 ret D d E A) (C : Cx D (wX o ad d) A s st H locs) {a : Nat} {v : Int32} (ha : okE st a) (hz : zb v) (hdg : decode cc pc = .ok (.putfield 147, 3)) (kk : ∀ (H1 : Heap) (locs1 : List Loc) (st1 : CS), st1 = uF st a 2 v → Cx D (wX o ad d) A s st1 H1 locs1 → W p l e R s m args below meth c H1 locs1 cells slots Q (F0 m (pc + 3) ls rest)) : W p l e R s m args below meth c H locs cells slots Q (F0 m pc ls (.int v :: .ref a :: rest)) := by
  have hfit : fits .boolean (.int v) = true := by rcases zb_cases hz with rfl | rfl <;> rfl
  rcases ha.cases with h | h | h | h
  · exact xP_put (v := .int v) (x := v) (kf := 2) (ty := .boolean) F C ha.1 (pE_1 h) rfl in_X2 tyX2_ok nmPX2 (k := 2) (by decide) q286 (fun _ h9 => h9) rfl (by decide +kernel) hz hfit (Nat.le_of_ble_eq_true rfl) (by rw [pE_1 (v := ((sE st a).1, (sE st a).2.1, upd (sE st a).2.2 2 v)) h]; rfl) hdg kk
  · exact xP_put (v := .int v) (x := v) (kf := 2) (ty := .boolean) F C ha.1 (pE_2 h) rfl in_X3 tyX3_ok nmPX3 (k := 2) (by decide) q286 (fun _ h9 => h9) rfl (by decide +kernel) hz hfit (Nat.le_of_ble_eq_true rfl) (by rw [pE_2 (v := ((sE st a).1, (sE st a).2.1, upd (sE st a).2.2 2 v)) h]; rfl) hdg kk
  · exact xP_put (v := .int v) (x := v) (kf := 2) (ty := .boolean) F C ha.1 (pE_3 h) rfl in_X4 tyX4_ok nmPX4 (k := 2) (by decide) q286 (fun _ h9 => h9) rfl (by decide +kernel) hz hfit (Nat.le_of_ble_eq_true rfl) (by rw [pE_3 (v := ((sE st a).1, (sE st a).2.1, upd (sE st a).2.2 2 v)) h]; rfl) hdg kk
  · exact xP_put (v := .int v) (x := v) (kf := 2) (ty := .boolean) F C ha.1 (pE_4 h) rfl in_X5 tyX5_ok nmPX5 (k := 2) (by decide) q286 (fun _ h9 => h9) rfl (by decide +kernel) hz hfit (Nat.le_of_ble_eq_true rfl) (by rw [pE_4 (v := ((sE st a).1, (sE st a).2.1, upd (sE st a).2.2 2 v)) h]; rfl) hdg kk
theorem x0_new1 (F : Fx p s m args meth c cc nL RX0 ret D d E A) (C : Cx D (wX o ad d) A s st H locs) (hcells : cells + 1 ≤ R.cells) (hslots : slots + 4 ≤ R.slots) (hdg : decode cc pc = .ok (.new 30, 3))
    (kk : ∀ (q : Nat) (H1 : Heap) (st1 : CS), st1 = uN st q (1, 0, fun _ => 0) → q ∉ sP st → Cx D (wX o ad d) A s st1 H1 locs → W p l e R s m args below meth c H1 locs (cells + 1) (slots + 4) Q (F0 m (pc + 3) ls (.ref q :: rest))) : W p l e R s m args below meth c H locs cells slots Q (F0 m pc ls rest) := by
  obtain ⟨hx, hb, hr, hml, hown, hts, hlk, hA, hK, hE⟩ := F
  refine va_new (ci := 1) (fs := [.int 0, .int 0, .int 0, .null]) (C := RX2) (T := TX2) (N := 4) hx hb hts in_X2 tyX2 tyX2_ok hown (hts _ q97) (hts _ q271) (hts _ q72) hK.1 C.1 C.2.1 C.2.2 hA rfl (fun j hj => by
    match j, hj with
    | 0, _ => rfl
    | 1, _ => rfl
    | 2, _ => rfl
    | 3, _ => rfl
    | j + 4, hj => exact absurd hj (by omega)) hcells hslots hdg (fun q H1 hP hD hS => ?_)
  obtain ⟨he, hn⟩ := wX_uN (v := (1, 0, fun _ => 0)) hD (show _ = pE o d (1, 0, fun _ => 0) from rfl)
  rw [he] at hP hD
  exact kk q H1 _ rfl hn ⟨hP, hD, hS⟩
theorem x0_new2 (F : Fx p s m args meth c cc nL RX0 ret D d E A) (C : Cx D (wX o ad d) A s st H locs) (hcells : cells + 1 ≤ R.cells) (hslots : slots + 6 ≤ R.slots) (hdg : decode cc pc = .ok (.new 164, 3))
    (kk : ∀ (q : Nat) (H1 : Heap) (st1 : CS), st1 = uN st q (2, 0, fun _ => 0) → q ∉ sP st → Cx D (wX o ad d) A s st1 H1 locs → W p l e R s m args below meth c H1 locs (cells + 1) (slots + 6) Q (F0 m (pc + 3) ls (.ref q :: rest))) : W p l e R s m args below meth c H locs cells slots Q (F0 m pc ls rest) := by
  obtain ⟨hx, hb, hr, hml, hown, hts, hlk, hA, hK, hE⟩ := F
  refine va_new (ci := 2) (fs := [.int 0, .int 0, .int 0, .null, .int 0, .null]) (C := RX3) (T := TX3) (N := 6) hx hb hts in_X3 tyX3 tyX3_ok hown (hts _ q297) (hts _ q298) (hts _ q73) hK.1 C.1 C.2.1 C.2.2 hA rfl (fun j hj => by
    match j, hj with
    | 0, _ => rfl
    | 1, _ => rfl
    | 2, _ => rfl
    | 3, _ => rfl
    | 4, _ => rfl
    | 5, _ => rfl
    | j + 6, hj => exact absurd hj (by omega)) hcells hslots hdg (fun q H1 hP hD hS => ?_)
  obtain ⟨he, hn⟩ := wX_uN (v := (2, 0, fun _ => 0)) hD (show _ = pE o d (2, 0, fun _ => 0) from rfl)
  rw [he] at hP hD
  exact kk q H1 _ rfl hn ⟨hP, hD, hS⟩
theorem x0_new3 (F : Fx p s m args meth c cc nL RX0 ret D d E A) (C : Cx D (wX o ad d) A s st H locs) (hcells : cells + 1 ≤ R.cells) (hslots : slots + 6 ≤ R.slots) (hdg : decode cc pc = .ok (.new 169, 3))
    (kk : ∀ (q : Nat) (H1 : Heap) (st1 : CS), st1 = uN st q (3, 0, fun _ => 0) → q ∉ sP st → Cx D (wX o ad d) A s st1 H1 locs → W p l e R s m args below meth c H1 locs (cells + 1) (slots + 6) Q (F0 m (pc + 3) ls (.ref q :: rest))) : W p l e R s m args below meth c H locs cells slots Q (F0 m pc ls rest) := by
  obtain ⟨hx, hb, hr, hml, hown, hts, hlk, hA, hK, hE⟩ := F
  refine va_new (ci := 3) (fs := [.int 0, .int 0, .int 0, .null, .int 0, .null]) (C := RX4) (T := TX4) (N := 6) hx hb hts in_X4 tyX4 tyX4_ok hown (hts _ q315) (hts _ q316) (hts _ q74) hK.1 C.1 C.2.1 C.2.2 hA rfl (fun j hj => by
    match j, hj with
    | 0, _ => rfl
    | 1, _ => rfl
    | 2, _ => rfl
    | 3, _ => rfl
    | 4, _ => rfl
    | 5, _ => rfl
    | j + 6, hj => exact absurd hj (by omega)) hcells hslots hdg (fun q H1 hP hD hS => ?_)
  obtain ⟨he, hn⟩ := wX_uN (v := (3, 0, fun _ => 0)) hD (show _ = pE o d (3, 0, fun _ => 0) from rfl)
  rw [he] at hP hD
  exact kk q H1 _ rfl hn ⟨hP, hD, hS⟩
theorem x0_new4 (F : Fx p s m args meth c cc nL RX0 ret D d E A) (C : Cx D (wX o ad d) A s st H locs) (hcells : cells + 1 ≤ R.cells) (hslots : slots + 8 ≤ R.slots) (hdg : decode cc pc = .ok (.new 183, 3))
    (kk : ∀ (q : Nat) (H1 : Heap) (st1 : CS), st1 = uN st q (4, 0, fun _ => 0) → q ∉ sP st → Cx D (wX o ad d) A s st1 H1 locs → W p l e R s m args below meth c H1 locs (cells + 1) (slots + 8) Q (F0 m (pc + 3) ls (.ref q :: rest))) : W p l e R s m args below meth c H locs cells slots Q (F0 m pc ls rest) := by
  obtain ⟨hx, hb, hr, hml, hown, hts, hlk, hA, hK, hE⟩ := F
  refine va_new (ci := 4) (fs := [.int 0, .int 0, .int 0, .null, .int 0, .null, .int 0, .null]) (C := RX5) (T := TX5) (N := 8) hx hb hts in_X5 tyX5 tyX5_ok hown (hts _ q451) (hts _ q475) (hts _ q80) hK.1 C.1 C.2.1 C.2.2 hA rfl (fun j hj => by
    match j, hj with
    | 0, _ => rfl
    | 1, _ => rfl
    | 2, _ => rfl
    | 3, _ => rfl
    | 4, _ => rfl
    | 5, _ => rfl
    | 6, _ => rfl
    | 7, _ => rfl
    | j + 8, hj => exact absurd hj (by omega)) hcells hslots hdg (fun q H1 hP hD hS => ?_)
  obtain ⟨he, hn⟩ := wX_uN (v := (4, 0, fun _ => 0)) hD (show _ = pE o d (4, 0, fun _ => 0) from rfl)
  rw [he] at hP hD
  exact kk q H1 _ rfl hn ⟨hP, hD, hS⟩
theorem x0_stL (hX : ∀ U, E U → EL U) (F : Fx p s m args meth c cc nL own ret D d E A) (C : Cx D (wX o ad d) A s st H locs) {i : Int32} {a : Nat} (ha : okE st a) (hin : vp_in i 40) (hdg : decode cc pc = .ok (.aastore, 1))
    (kk : ∀ (H1 : Heap) (locs1 : List Loc) (st1 : CS), st1 = uR st 10 i.toNatClampNeg (some a) → Cx D (wX o ad d) A s st1 H1 locs1 → W p l e R s m args below meth c H1 locs1 cells slots Q (F0 m (pc + 1) ls rest)) : W p l e R s m args below meth c H locs cells slots Q (F0 m pc ls (.ref a :: .int i :: .ref (ad 10) :: rest)) := by
  have F' := F
  obtain ⟨hx, hb, hr, hml, hown, hts, hlk, hA, hK, hE⟩ := F'
  obtain ⟨c3, c4, c5, -⟩ := hX s hK.2
  have any : ∀ {ci : Nat} {fs : List Value} {q : vw_C}, pE o d (sE st a) = .inr (ci, fs) → kcl[ci]? = some q → va_Nw (.castable q.1 "HeirHunters$Line") s → va_Any "HeirHunters$Line" s H a := by
    intro ci fs q hp hc hn
    obtain ⟨cell, h1, h2, h3⟩ := xP_recv F C ha.1 hp hc
    obtain ⟨k1, r1, -⟩ := Vm.findClass_spec h3
    obtain ⟨c3, t3, w1, w2, w3⟩ := Cond.castable_spec hn
    cases h3.symm.trans w1
    exact ⟨cell, h1, h2, ⟨k1, r1⟩, fun comp hcomp => by cases w2.symm.trans hcomp; exact w3⟩
  by_cases h1 : (sE st a).1 = 1
  · obtain ⟨k, hk⟩ := pool_at (o := o) (ad := ad) (d := d) ha.1
    rw [pE_1 h1] at hk
    exact va_astq (r := (RX2, TX2, 4)) hx hb hK.1 C.1 C.2.1 C.2.2 5 3 k 1 rfl rfl hk rfl hin hdg (fun H1 locs1 hP hD hS => kk H1 locs1 _ rfl ⟨hP, hD, hS⟩)
  have hany : va_Any "HeirHunters$Line" s H a := by
    rcases ha.cases with h | h | h | h
    · exact absurd h h1
    · exact any (pE_2 h) rfl c3
    · exact any (pE_3 h) rfl c4
    · exact any (pE_4 h) rfl c5
  exact va_astqM (E := "HeirHunters$Line") hx hb hK.1 C.1 C.2.1 C.2.2 5 3 rfl rfl hany hin hdg (fun H1 locs1 hP hD hS => kk H1 locs1 _ rfl ⟨hP, hD, hS⟩)
end
end
