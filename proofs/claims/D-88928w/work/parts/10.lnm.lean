section
variable {p : Program} {l : Launch} {e : Env} {s : State} {m : MethodId} {args : Array Value} {below : List Frame} {meth : Method} {c : Code} {D : va_G} {d : Nat → ClassId} {E : State → Prop} {A : Nat → Prop} {wf : CS → va_W} {o : Nat} {ad : Nat → Nat}
set_option maxRecDepth 100000
abbrev rmX2_init_c1 : Room := { frames := 1, cells := 0, slots := 0, locals := 12 }
def wpX2_init_c1  (post : CS → Prop) (s0 : CS) (a : Nat) (p1 : Int32) (p2 : Int32) : Prop := (okC s0 a 1 ∧ ∀ s_2 : CS, s_2 = uF s0 a 7 1 → (okC s_2 a 1 ∧ ∀ s_4 : CS, s_4 = uF s_2 a 0 p1 → (okC s_4 a 1 ∧ ∀ s_6 : CS, s_6 = uF s_4 a 1 p2 → (post s_6))))
theorem ctX2_init_c1 (hE : Em E)  {post : CS → Prop} {s0 : CS} {a : Nat} {p1 : Int32} {p2 : Int32} (hw : wpX2_init_c1  post s0 a p1 p2) : CtV l yX2_init (ws_ yX2_init cX2_init 4 none) rmX2_init_c1 D d E (wX o ad d) 0 0 [.ref a, .ref o, .int p1, .int p2] s0 post := by
  refine CtV.ofI hE (by decide) rfl (Nat.le_of_ble_eq_true rfl) rfl ?_
  intro p e s m below meth c A ls F C hin2 hl
  have hl : lv_has ls 4 [(0, .ref a), (1, .ref o), (2, .int p1), (3, .int p2)] := hl
  unfold wpX2_init_c1 at hw
  obtain ⟨hx, hb, hr, hml, hown, hts, hlk, hA, hK, -⟩ := id F
  refine lv_aload_n hx hb dX2_init_0 rfl (lv_at hl 0 rfl) ?_
  refine lv_aload_n hx hb dX2_init_1 rfl (lv_at hl 1 rfl) ?_
  obtain ⟨h_1, hw⟩ := hw
  refine xP_putF (v := .ref o) (x := 1) (kf := 7) (ty := (.object "HeirHunters")) F C hin2 h_1.1 (pE_1 h_1.2) rfl in_X2 tyX2_ok nmPX2 (k := 3) (by decide) q287 rfl rfl (by decide +kernel) rfl rfl (Nat.le_of_ble_eq_true rfl) (by rw [pE_1 (v := ((sE s0 a).1, (sE s0 a).2.1, upd (sE s0 a).2.2 7 1)) h_1.2]; rfl) dX2_init_2 (fun H locs s_2 es_2 C => ?_)
  have hw := hw s_2 es_2
  refine lv_aload_n hx hb dX2_init_5 rfl (lv_at hl 0 rfl) ?_
  refine W.objInit hx hb hown (hts _ q275) (hts _ q95) (hts _ q96) rfl (by rw [hml]; exact hl.1) rfl dX2_init_6 (Nat.le_of_ble_eq_true rfl) (Nat.le_of_ble_eq_true rfl) ?_
  refine W.eq (g2 := F0 m 9 ls []) rfl ?_
  refine lv_aload_n hx hb dX2_init_9 rfl (lv_at hl 0 rfl) ?_
  refine lv_iload_n hx hb dX2_init_10 rfl (lv_at hl 2 rfl) ?_
  obtain ⟨h_3, hw⟩ := hw
  refine xP_putF (v := .int p1) (x := p1) (kf := 0) (ty := .int) F C hin2 h_3.1 (pE_1 h_3.2) rfl in_X2 tyX2_ok nmPX2 (k := 0) (by decide) q278 rfl rfl (by decide +kernel) rfl rfl (Nat.le_of_ble_eq_true rfl) (by rw [pE_1 (v := ((sE s_2 a).1, (sE s_2 a).2.1, upd (sE s_2 a).2.2 0 p1)) h_3.2]; rfl) dX2_init_11 (fun H locs s_4 es_4 C => ?_)
  have hw := hw s_4 es_4
  refine lv_aload_n hx hb dX2_init_14 rfl (lv_at hl 0 rfl) ?_
  refine lv_iload_n hx hb dX2_init_15 rfl (lv_at hl 3 rfl) ?_
  obtain ⟨h_5, hw⟩ := hw
  refine xP_putF (v := .int p2) (x := p2) (kf := 1) (ty := .int) F C hin2 h_5.1 (pE_1 h_5.2) rfl in_X2 tyX2_ok nmPX2 (k := 1) (by decide) q282 rfl rfl (by decide +kernel) rfl rfl (Nat.le_of_ble_eq_true rfl) (by rw [pE_1 (v := ((sE s_4 a).1, (sE s_4 a).2.1, upd (sE s_4 a).2.2 1 p2)) h_5.2]; rfl) dX2_init_16 (fun H locs s_6 es_6 C => ?_)
  have hw := hw s_6 es_6
  exact x_vret F C hw dX2_init_19

abbrev rmX2_init_c2 : Room := { frames := 1, cells := 0, slots := 0, locals := 12 }
def wpX2_init_c2  (post : CS → Prop) (s0 : CS) (a : Nat) (p1 : Int32) (p2 : Int32) : Prop := (okC s0 a 2 ∧ ∀ s_2 : CS, s_2 = uF s0 a 7 1 → (okC s_2 a 2 ∧ ∀ s_4 : CS, s_4 = uF s_2 a 0 p1 → (okC s_4 a 2 ∧ ∀ s_6 : CS, s_6 = uF s_4 a 1 p2 → (post s_6))))
theorem ctX2_init_c2 (hE : Em E)  {post : CS → Prop} {s0 : CS} {a : Nat} {p1 : Int32} {p2 : Int32} (hw : wpX2_init_c2  post s0 a p1 p2) : CtV l yX2_init (ws_ yX2_init cX2_init 4 none) rmX2_init_c2 D d E (wX o ad d) 0 0 [.ref a, .ref o, .int p1, .int p2] s0 post := by
  refine CtV.ofI hE (by decide) rfl (Nat.le_of_ble_eq_true rfl) rfl ?_
  intro p e s m below meth c A ls F C hin2 hl
  have hl : lv_has ls 4 [(0, .ref a), (1, .ref o), (2, .int p1), (3, .int p2)] := hl
  unfold wpX2_init_c2 at hw
  obtain ⟨hx, hb, hr, hml, hown, hts, hlk, hA, hK, -⟩ := id F
  refine lv_aload_n hx hb dX2_init_0 rfl (lv_at hl 0 rfl) ?_
  refine lv_aload_n hx hb dX2_init_1 rfl (lv_at hl 1 rfl) ?_
  obtain ⟨h_1, hw⟩ := hw
  refine xP_putF (v := .ref o) (x := 1) (kf := 7) (ty := (.object "HeirHunters")) F C hin2 h_1.1 (pE_2 h_1.2) rfl in_X3 tyX3_ok nmPX3 (k := 3) (by decide) q287 rfl rfl (by decide +kernel) rfl rfl (Nat.le_of_ble_eq_true rfl) (by rw [pE_2 (v := ((sE s0 a).1, (sE s0 a).2.1, upd (sE s0 a).2.2 7 1)) h_1.2]; rfl) dX2_init_2 (fun H locs s_2 es_2 C => ?_)
  have hw := hw s_2 es_2
  refine lv_aload_n hx hb dX2_init_5 rfl (lv_at hl 0 rfl) ?_
  refine W.objInit hx hb hown (hts _ q275) (hts _ q95) (hts _ q96) rfl (by rw [hml]; exact hl.1) rfl dX2_init_6 (Nat.le_of_ble_eq_true rfl) (Nat.le_of_ble_eq_true rfl) ?_
  refine W.eq (g2 := F0 m 9 ls []) rfl ?_
  refine lv_aload_n hx hb dX2_init_9 rfl (lv_at hl 0 rfl) ?_
  refine lv_iload_n hx hb dX2_init_10 rfl (lv_at hl 2 rfl) ?_
  obtain ⟨h_3, hw⟩ := hw
  refine xP_putF (v := .int p1) (x := p1) (kf := 0) (ty := .int) F C hin2 h_3.1 (pE_2 h_3.2) rfl in_X3 tyX3_ok nmPX3 (k := 0) (by decide) q278 rfl rfl (by decide +kernel) rfl rfl (Nat.le_of_ble_eq_true rfl) (by rw [pE_2 (v := ((sE s_2 a).1, (sE s_2 a).2.1, upd (sE s_2 a).2.2 0 p1)) h_3.2]; rfl) dX2_init_11 (fun H locs s_4 es_4 C => ?_)
  have hw := hw s_4 es_4
  refine lv_aload_n hx hb dX2_init_14 rfl (lv_at hl 0 rfl) ?_
  refine lv_iload_n hx hb dX2_init_15 rfl (lv_at hl 3 rfl) ?_
  obtain ⟨h_5, hw⟩ := hw
  refine xP_putF (v := .int p2) (x := p2) (kf := 1) (ty := .int) F C hin2 h_5.1 (pE_2 h_5.2) rfl in_X3 tyX3_ok nmPX3 (k := 1) (by decide) q282 rfl rfl (by decide +kernel) rfl rfl (Nat.le_of_ble_eq_true rfl) (by rw [pE_2 (v := ((sE s_4 a).1, (sE s_4 a).2.1, upd (sE s_4 a).2.2 1 p2)) h_5.2]; rfl) dX2_init_16 (fun H locs s_6 es_6 C => ?_)
  have hw := hw s_6 es_6
  exact x_vret F C hw dX2_init_19

abbrev rmX3_init_c2 : Room := { frames := 2, cells := 0, slots := 0, locals := 35 }
def wpX3_init_c2  (post : CS → Prop) (s0 : CS) (a : Nat) (p1 : Int32) (p2 : Int32) (p3 : Int32) : Prop := (okC s0 a 2 ∧ ∀ s_2 : CS, s_2 = uF s0 a 8 1 → (wpX2_init_c2 (fun s_3 => (okC s_3 a 2 ∧ ∀ s_5 : CS, s_5 = uF s_3 a 3 p3 → (post s_5))) s_2 a p1 p2))
theorem ctX3_init_c2 (hE : Em E)  {post : CS → Prop} {s0 : CS} {a : Nat} {p1 : Int32} {p2 : Int32} {p3 : Int32} (hw : wpX3_init_c2  post s0 a p1 p2 p3) : CtV l yX3_init (ws_ yX3_init cX3_init 5 none) rmX3_init_c2 D d E (wX o ad d) 0 0 [.ref a, .ref o, .int p1, .int p2, .int p3] s0 post := by
  refine CtV.ofI hE (by decide) rfl (Nat.le_of_ble_eq_true rfl) rfl ?_
  intro p e s m below meth c A ls F C hin2 hl
  have hl : lv_has ls 5 [(0, .ref a), (1, .ref o), (2, .int p1), (3, .int p2), (4, .int p3)] := hl
  unfold wpX3_init_c2 at hw
  obtain ⟨hx, hb, hr, hml, hown, hts, hlk, hA, hK, -⟩ := id F
  refine lv_aload_n hx hb dX3_init_0 rfl (lv_at hl 0 rfl) ?_
  refine lv_aload_n hx hb dX3_init_1 rfl (lv_at hl 1 rfl) ?_
  obtain ⟨h_1, hw⟩ := hw
  refine xP_putF (v := .ref o) (x := 1) (kf := 8) (ty := (.object "HeirHunters")) F C hin2 h_1.1 (pE_2 h_1.2) rfl in_X3 tyX3_ok nmPX3 (k := 5) (by decide) q305 rfl rfl (by decide +kernel) rfl rfl (Nat.le_of_ble_eq_true rfl) (by rw [pE_2 (v := ((sE s0 a).1, (sE s0 a).2.1, upd (sE s0 a).2.2 8 1)) h_1.2]; rfl) dX3_init_2 (fun H locs s_2 es_2 C => ?_)
  have hw := hw s_2 es_2
  refine lv_aload_n hx hb dX3_init_5 rfl (lv_at hl 0 rfl) ?_
  refine lv_aload_n hx hb dX3_init_6 rfl (lv_at hl 1 rfl) ?_
  refine lv_iload_n hx hb dX3_init_7 rfl (lv_at hl 2 rfl) ?_
  refine lv_iload_n hx hb dX3_init_8 rfl (lv_at hl 3 rfl) ?_
  refine x_callC (rest := []) F C (ctX2_init_c2 hE hw) (cwI 3 hts (lw_meth q274) rfl rfl rfl (hts _ q72) (hts _ q302) (hts _ q273) rfl (by decide +kernel) ⟨Nat.le_of_ble_eq_true rfl, Nat.le_of_ble_eq_true rfl⟩) rfl hl.1 rfl (Nat.le_of_ble_eq_true rfl) dX3_init_9 ⟨Nat.zero_le _, Nat.zero_le _⟩ (fun s_3 H locs hw C => ?_)
  refine lv_aload_n hx hb dX3_init_12 rfl (lv_at hl 0 rfl) ?_
  refine lv_iload hx hb dX3_init_13 (lv_at hl 4 rfl) ?_
  obtain ⟨h_4, hw⟩ := hw
  refine xP_putF (v := .int p3) (x := p3) (kf := 3) (ty := .int) F C hin2 h_4.1 (pE_2 h_4.2) rfl in_X3 tyX3_ok nmPX3 (k := 4) (by decide) q303 rfl rfl (by decide +kernel) rfl rfl (Nat.le_of_ble_eq_true rfl) (by rw [pE_2 (v := ((sE s_3 a).1, (sE s_3 a).2.1, upd (sE s_3 a).2.2 3 p3)) h_4.2]; rfl) dX3_init_15 (fun H locs s_5 es_5 C => ?_)
  have hw := hw s_5 es_5
  exact x_vret F C hw dX3_init_18

abbrev rmX2_init_c3 : Room := { frames := 1, cells := 0, slots := 0, locals := 12 }
def wpX2_init_c3  (post : CS → Prop) (s0 : CS) (a : Nat) (p1 : Int32) (p2 : Int32) : Prop := (okC s0 a 3 ∧ ∀ s_2 : CS, s_2 = uF s0 a 7 1 → (okC s_2 a 3 ∧ ∀ s_4 : CS, s_4 = uF s_2 a 0 p1 → (okC s_4 a 3 ∧ ∀ s_6 : CS, s_6 = uF s_4 a 1 p2 → (post s_6))))
theorem ctX2_init_c3 (hE : Em E)  {post : CS → Prop} {s0 : CS} {a : Nat} {p1 : Int32} {p2 : Int32} (hw : wpX2_init_c3  post s0 a p1 p2) : CtV l yX2_init (ws_ yX2_init cX2_init 4 none) rmX2_init_c3 D d E (wX o ad d) 0 0 [.ref a, .ref o, .int p1, .int p2] s0 post := by
  refine CtV.ofI hE (by decide) rfl (Nat.le_of_ble_eq_true rfl) rfl ?_
  intro p e s m below meth c A ls F C hin2 hl
  have hl : lv_has ls 4 [(0, .ref a), (1, .ref o), (2, .int p1), (3, .int p2)] := hl
  unfold wpX2_init_c3 at hw
  obtain ⟨hx, hb, hr, hml, hown, hts, hlk, hA, hK, -⟩ := id F
  refine lv_aload_n hx hb dX2_init_0 rfl (lv_at hl 0 rfl) ?_
  refine lv_aload_n hx hb dX2_init_1 rfl (lv_at hl 1 rfl) ?_
  obtain ⟨h_1, hw⟩ := hw
  refine xP_putF (v := .ref o) (x := 1) (kf := 7) (ty := (.object "HeirHunters")) F C hin2 h_1.1 (pE_3 h_1.2) rfl in_X4 tyX4_ok nmPX4 (k := 3) (by decide) q287 rfl rfl (by decide +kernel) rfl rfl (Nat.le_of_ble_eq_true rfl) (by rw [pE_3 (v := ((sE s0 a).1, (sE s0 a).2.1, upd (sE s0 a).2.2 7 1)) h_1.2]; rfl) dX2_init_2 (fun H locs s_2 es_2 C => ?_)
  have hw := hw s_2 es_2
  refine lv_aload_n hx hb dX2_init_5 rfl (lv_at hl 0 rfl) ?_
  refine W.objInit hx hb hown (hts _ q275) (hts _ q95) (hts _ q96) rfl (by rw [hml]; exact hl.1) rfl dX2_init_6 (Nat.le_of_ble_eq_true rfl) (Nat.le_of_ble_eq_true rfl) ?_
  refine W.eq (g2 := F0 m 9 ls []) rfl ?_
  refine lv_aload_n hx hb dX2_init_9 rfl (lv_at hl 0 rfl) ?_
  refine lv_iload_n hx hb dX2_init_10 rfl (lv_at hl 2 rfl) ?_
  obtain ⟨h_3, hw⟩ := hw
  refine xP_putF (v := .int p1) (x := p1) (kf := 0) (ty := .int) F C hin2 h_3.1 (pE_3 h_3.2) rfl in_X4 tyX4_ok nmPX4 (k := 0) (by decide) q278 rfl rfl (by decide +kernel) rfl rfl (Nat.le_of_ble_eq_true rfl) (by rw [pE_3 (v := ((sE s_2 a).1, (sE s_2 a).2.1, upd (sE s_2 a).2.2 0 p1)) h_3.2]; rfl) dX2_init_11 (fun H locs s_4 es_4 C => ?_)
  have hw := hw s_4 es_4
  refine lv_aload_n hx hb dX2_init_14 rfl (lv_at hl 0 rfl) ?_
  refine lv_iload_n hx hb dX2_init_15 rfl (lv_at hl 3 rfl) ?_
  obtain ⟨h_5, hw⟩ := hw
  refine xP_putF (v := .int p2) (x := p2) (kf := 1) (ty := .int) F C hin2 h_5.1 (pE_3 h_5.2) rfl in_X4 tyX4_ok nmPX4 (k := 1) (by decide) q282 rfl rfl (by decide +kernel) rfl rfl (Nat.le_of_ble_eq_true rfl) (by rw [pE_3 (v := ((sE s_4 a).1, (sE s_4 a).2.1, upd (sE s_4 a).2.2 1 p2)) h_5.2]; rfl) dX2_init_16 (fun H locs s_6 es_6 C => ?_)
  have hw := hw s_6 es_6
  exact x_vret F C hw dX2_init_19

abbrev rmX4_init_c3 : Room := { frames := 2, cells := 0, slots := 0, locals := 35 }
def wpX4_init_c3  (post : CS → Prop) (s0 : CS) (a : Nat) (p1 : Int32) (p2 : Int32) (p3 : Int32) : Prop := (okC s0 a 3 ∧ ∀ s_2 : CS, s_2 = uF s0 a 8 1 → (wpX2_init_c3 (fun s_3 => (okC s_3 a 3 ∧ ∀ s_5 : CS, s_5 = uF s_3 a 3 p3 → (post s_5))) s_2 a p1 p2))
theorem ctX4_init_c3 (hE : Em E)  {post : CS → Prop} {s0 : CS} {a : Nat} {p1 : Int32} {p2 : Int32} {p3 : Int32} (hw : wpX4_init_c3  post s0 a p1 p2 p3) : CtV l yX4_init (ws_ yX4_init cX4_init 5 none) rmX4_init_c3 D d E (wX o ad d) 0 0 [.ref a, .ref o, .int p1, .int p2, .int p3] s0 post := by
  refine CtV.ofI hE (by decide) rfl (Nat.le_of_ble_eq_true rfl) rfl ?_
  intro p e s m below meth c A ls F C hin2 hl
  have hl : lv_has ls 5 [(0, .ref a), (1, .ref o), (2, .int p1), (3, .int p2), (4, .int p3)] := hl
  unfold wpX4_init_c3 at hw
  obtain ⟨hx, hb, hr, hml, hown, hts, hlk, hA, hK, -⟩ := id F
  refine lv_aload_n hx hb dX4_init_0 rfl (lv_at hl 0 rfl) ?_
  refine lv_aload_n hx hb dX4_init_1 rfl (lv_at hl 1 rfl) ?_
  obtain ⟨h_1, hw⟩ := hw
  refine xP_putF (v := .ref o) (x := 1) (kf := 8) (ty := (.object "HeirHunters")) F C hin2 h_1.1 (pE_3 h_1.2) rfl in_X4 tyX4_ok nmPX4 (k := 5) (by decide) q322 rfl rfl (by decide +kernel) rfl rfl (Nat.le_of_ble_eq_true rfl) (by rw [pE_3 (v := ((sE s0 a).1, (sE s0 a).2.1, upd (sE s0 a).2.2 8 1)) h_1.2]; rfl) dX4_init_2 (fun H locs s_2 es_2 C => ?_)
  have hw := hw s_2 es_2
  refine lv_aload_n hx hb dX4_init_5 rfl (lv_at hl 0 rfl) ?_
  refine lv_aload_n hx hb dX4_init_6 rfl (lv_at hl 1 rfl) ?_
  refine lv_iload_n hx hb dX4_init_7 rfl (lv_at hl 2 rfl) ?_
  refine lv_iload_n hx hb dX4_init_8 rfl (lv_at hl 3 rfl) ?_
  refine x_callC (rest := []) F C (ctX2_init_c3 hE hw) (cwI 3 hts (lw_meth q274) rfl rfl rfl (hts _ q72) (hts _ q320) (hts _ q273) rfl (by decide +kernel) ⟨Nat.le_of_ble_eq_true rfl, Nat.le_of_ble_eq_true rfl⟩) rfl hl.1 rfl (Nat.le_of_ble_eq_true rfl) dX4_init_9 ⟨Nat.zero_le _, Nat.zero_le _⟩ (fun s_3 H locs hw C => ?_)
  refine lv_aload_n hx hb dX4_init_12 rfl (lv_at hl 0 rfl) ?_
  refine lv_iload hx hb dX4_init_13 (lv_at hl 4 rfl) ?_
  obtain ⟨h_4, hw⟩ := hw
  refine xP_putF (v := .int p3) (x := p3) (kf := 3) (ty := .int) F C hin2 h_4.1 (pE_3 h_4.2) rfl in_X4 tyX4_ok nmPX4 (k := 4) (by decide) q321 rfl rfl (by decide +kernel) rfl rfl (Nat.le_of_ble_eq_true rfl) (by rw [pE_3 (v := ((sE s_3 a).1, (sE s_3 a).2.1, upd (sE s_3 a).2.2 3 p3)) h_4.2]; rfl) dX4_init_15 (fun H locs s_5 es_5 C => ?_)
  have hw := hw s_5 es_5
  exact x_vret F C hw dX4_init_18

abbrev rmX2_init_c4 : Room := { frames := 1, cells := 0, slots := 0, locals := 12 }
def wpX2_init_c4  (post : CS → Prop) (s0 : CS) (a : Nat) (p1 : Int32) (p2 : Int32) : Prop := (okC s0 a 4 ∧ ∀ s_2 : CS, s_2 = uF s0 a 7 1 → (okC s_2 a 4 ∧ ∀ s_4 : CS, s_4 = uF s_2 a 0 p1 → (okC s_4 a 4 ∧ ∀ s_6 : CS, s_6 = uF s_4 a 1 p2 → (post s_6))))
theorem ctX2_init_c4 (hE : Em E)  {post : CS → Prop} {s0 : CS} {a : Nat} {p1 : Int32} {p2 : Int32} (hw : wpX2_init_c4  post s0 a p1 p2) : CtV l yX2_init (ws_ yX2_init cX2_init 4 none) rmX2_init_c4 D d E (wX o ad d) 0 0 [.ref a, .ref o, .int p1, .int p2] s0 post := by
  refine CtV.ofI hE (by decide) rfl (Nat.le_of_ble_eq_true rfl) rfl ?_
  intro p e s m below meth c A ls F C hin2 hl
  have hl : lv_has ls 4 [(0, .ref a), (1, .ref o), (2, .int p1), (3, .int p2)] := hl
  unfold wpX2_init_c4 at hw
  obtain ⟨hx, hb, hr, hml, hown, hts, hlk, hA, hK, -⟩ := id F
  refine lv_aload_n hx hb dX2_init_0 rfl (lv_at hl 0 rfl) ?_
  refine lv_aload_n hx hb dX2_init_1 rfl (lv_at hl 1 rfl) ?_
  obtain ⟨h_1, hw⟩ := hw
  refine xP_putF (v := .ref o) (x := 1) (kf := 7) (ty := (.object "HeirHunters")) F C hin2 h_1.1 (pE_4 h_1.2) rfl in_X5 tyX5_ok nmPX5 (k := 3) (by decide) q287 rfl rfl (by decide +kernel) rfl rfl (Nat.le_of_ble_eq_true rfl) (by rw [pE_4 (v := ((sE s0 a).1, (sE s0 a).2.1, upd (sE s0 a).2.2 7 1)) h_1.2]; rfl) dX2_init_2 (fun H locs s_2 es_2 C => ?_)
  have hw := hw s_2 es_2
  refine lv_aload_n hx hb dX2_init_5 rfl (lv_at hl 0 rfl) ?_
  refine W.objInit hx hb hown (hts _ q275) (hts _ q95) (hts _ q96) rfl (by rw [hml]; exact hl.1) rfl dX2_init_6 (Nat.le_of_ble_eq_true rfl) (Nat.le_of_ble_eq_true rfl) ?_
  refine W.eq (g2 := F0 m 9 ls []) rfl ?_
  refine lv_aload_n hx hb dX2_init_9 rfl (lv_at hl 0 rfl) ?_
  refine lv_iload_n hx hb dX2_init_10 rfl (lv_at hl 2 rfl) ?_
  obtain ⟨h_3, hw⟩ := hw
  refine xP_putF (v := .int p1) (x := p1) (kf := 0) (ty := .int) F C hin2 h_3.1 (pE_4 h_3.2) rfl in_X5 tyX5_ok nmPX5 (k := 0) (by decide) q278 rfl rfl (by decide +kernel) rfl rfl (Nat.le_of_ble_eq_true rfl) (by rw [pE_4 (v := ((sE s_2 a).1, (sE s_2 a).2.1, upd (sE s_2 a).2.2 0 p1)) h_3.2]; rfl) dX2_init_11 (fun H locs s_4 es_4 C => ?_)
  have hw := hw s_4 es_4
  refine lv_aload_n hx hb dX2_init_14 rfl (lv_at hl 0 rfl) ?_
  refine lv_iload_n hx hb dX2_init_15 rfl (lv_at hl 3 rfl) ?_
  obtain ⟨h_5, hw⟩ := hw
  refine xP_putF (v := .int p2) (x := p2) (kf := 1) (ty := .int) F C hin2 h_5.1 (pE_4 h_5.2) rfl in_X5 tyX5_ok nmPX5 (k := 1) (by decide) q282 rfl rfl (by decide +kernel) rfl rfl (Nat.le_of_ble_eq_true rfl) (by rw [pE_4 (v := ((sE s_4 a).1, (sE s_4 a).2.1, upd (sE s_4 a).2.2 1 p2)) h_5.2]; rfl) dX2_init_16 (fun H locs s_6 es_6 C => ?_)
  have hw := hw s_6 es_6
  exact x_vret F C hw dX2_init_19

abbrev rmX3_init_c4 : Room := { frames := 2, cells := 0, slots := 0, locals := 35 }
def wpX3_init_c4  (post : CS → Prop) (s0 : CS) (a : Nat) (p1 : Int32) (p2 : Int32) (p3 : Int32) : Prop := (okC s0 a 4 ∧ ∀ s_2 : CS, s_2 = uF s0 a 8 1 → (wpX2_init_c4 (fun s_3 => (okC s_3 a 4 ∧ ∀ s_5 : CS, s_5 = uF s_3 a 3 p3 → (post s_5))) s_2 a p1 p2))
theorem ctX3_init_c4 (hE : Em E)  {post : CS → Prop} {s0 : CS} {a : Nat} {p1 : Int32} {p2 : Int32} {p3 : Int32} (hw : wpX3_init_c4  post s0 a p1 p2 p3) : CtV l yX3_init (ws_ yX3_init cX3_init 5 none) rmX3_init_c4 D d E (wX o ad d) 0 0 [.ref a, .ref o, .int p1, .int p2, .int p3] s0 post := by
  refine CtV.ofI hE (by decide) rfl (Nat.le_of_ble_eq_true rfl) rfl ?_
  intro p e s m below meth c A ls F C hin2 hl
  have hl : lv_has ls 5 [(0, .ref a), (1, .ref o), (2, .int p1), (3, .int p2), (4, .int p3)] := hl
  unfold wpX3_init_c4 at hw
  obtain ⟨hx, hb, hr, hml, hown, hts, hlk, hA, hK, -⟩ := id F
  refine lv_aload_n hx hb dX3_init_0 rfl (lv_at hl 0 rfl) ?_
  refine lv_aload_n hx hb dX3_init_1 rfl (lv_at hl 1 rfl) ?_
  obtain ⟨h_1, hw⟩ := hw
  refine xP_putF (v := .ref o) (x := 1) (kf := 8) (ty := (.object "HeirHunters")) F C hin2 h_1.1 (pE_4 h_1.2) rfl in_X5 tyX5_ok nmPX5 (k := 5) (by decide) q305 rfl rfl (by decide +kernel) rfl rfl (Nat.le_of_ble_eq_true rfl) (by rw [pE_4 (v := ((sE s0 a).1, (sE s0 a).2.1, upd (sE s0 a).2.2 8 1)) h_1.2]; rfl) dX3_init_2 (fun H locs s_2 es_2 C => ?_)
  have hw := hw s_2 es_2
  refine lv_aload_n hx hb dX3_init_5 rfl (lv_at hl 0 rfl) ?_
  refine lv_aload_n hx hb dX3_init_6 rfl (lv_at hl 1 rfl) ?_
  refine lv_iload_n hx hb dX3_init_7 rfl (lv_at hl 2 rfl) ?_
  refine lv_iload_n hx hb dX3_init_8 rfl (lv_at hl 3 rfl) ?_
  refine x_callC (rest := []) F C (ctX2_init_c4 hE hw) (cwI 3 hts (lw_meth q274) rfl rfl rfl (hts _ q72) (hts _ q302) (hts _ q273) rfl (by decide +kernel) ⟨Nat.le_of_ble_eq_true rfl, Nat.le_of_ble_eq_true rfl⟩) rfl hl.1 rfl (Nat.le_of_ble_eq_true rfl) dX3_init_9 ⟨Nat.zero_le _, Nat.zero_le _⟩ (fun s_3 H locs hw C => ?_)
  refine lv_aload_n hx hb dX3_init_12 rfl (lv_at hl 0 rfl) ?_
  refine lv_iload hx hb dX3_init_13 (lv_at hl 4 rfl) ?_
  obtain ⟨h_4, hw⟩ := hw
  refine xP_putF (v := .int p3) (x := p3) (kf := 3) (ty := .int) F C hin2 h_4.1 (pE_4 h_4.2) rfl in_X5 tyX5_ok nmPX5 (k := 4) (by decide) q303 rfl rfl (by decide +kernel) rfl rfl (Nat.le_of_ble_eq_true rfl) (by rw [pE_4 (v := ((sE s_3 a).1, (sE s_3 a).2.1, upd (sE s_3 a).2.2 3 p3)) h_4.2]; rfl) dX3_init_15 (fun H locs s_5 es_5 C => ?_)
  have hw := hw s_5 es_5
  exact x_vret F C hw dX3_init_18

abbrev rmX5_init_c4 : Room := { frames := 3, cells := 0, slots := 0, locals := 59 }
def wpX5_init_c4  (post : CS → Prop) (s0 : CS) (a : Nat) (b : Nat) (p2 : Int32) : Prop := (okC s0 a 4 ∧ ∀ s_2 : CS, s_2 = uF s0 a 9 1 → (okC s_2 b 2 ∧ (okC s_2 b 2 ∧ (okC s_2 b 2 ∧ (wpX3_init_c4 (fun s_6 => (okC s_6 a 4 ∧ ∀ s_8 : CS, s_8 = uF s_6 a 4 p2 → (post s_8))) s_2 a ((sE s_2 b).2.2 0) ((sE s_2 b).2.2 1) ((sE s_2 b).2.2 3))))))
theorem ctX5_init_c4 (hE : Em E)  {post : CS → Prop} {s0 : CS} {a : Nat} {b : Nat} {p2 : Int32} (hw : wpX5_init_c4  post s0 a b p2) : CtV l yX5_init (ws_ yX5_init cX5_init 4 none) rmX5_init_c4 D d E (wX o ad d) 0 0 [.ref a, .ref o, .ref b, .int p2] s0 post := by
  refine CtV.ofI hE (by decide) rfl (Nat.le_of_ble_eq_true rfl) rfl ?_
  intro p e s m below meth c A ls F C hin2 hl
  have hl : lv_has ls 4 [(0, .ref a), (1, .ref o), (2, .ref b), (3, .int p2)] := hl
  unfold wpX5_init_c4 at hw
  obtain ⟨hx, hb, hr, hml, hown, hts, hlk, hA, hK, -⟩ := id F
  refine lv_aload_n hx hb dX5_init_0 rfl (lv_at hl 0 rfl) ?_
  refine lv_aload_n hx hb dX5_init_1 rfl (lv_at hl 1 rfl) ?_
  obtain ⟨h_1, hw⟩ := hw
  refine xP_putF (v := .ref o) (x := 1) (kf := 9) (ty := (.object "HeirHunters")) F C hin2 h_1.1 (pE_4 h_1.2) rfl in_X5 tyX5_ok nmPX5 (k := 7) (by decide) q481 rfl rfl (by decide +kernel) rfl rfl (Nat.le_of_ble_eq_true rfl) (by rw [pE_4 (v := ((sE s0 a).1, (sE s0 a).2.1, upd (sE s0 a).2.2 9 1)) h_1.2]; rfl) dX5_init_2 (fun H locs s_2 es_2 C => ?_)
  have hw := hw s_2 es_2
  refine lv_aload_n hx hb dX5_init_5 rfl (lv_at hl 0 rfl) ?_
  refine lv_aload_n hx hb dX5_init_6 rfl (lv_at hl 1 rfl) ?_
  refine lv_aload_n hx hb dX5_init_7 rfl (lv_at hl 2 rfl) ?_
  obtain ⟨h_3, hw⟩ := hw
  refine xP_get F C h_3.1 (pE_2 h_3.2) rfl in_X3 (k := 0) (by decide) q276 (fun _ h9 => u_same (hts _ q277) _ h9) rfl dX5_init_8 ?_
  refine lv_aload_n hx hb dX5_init_11 rfl (lv_at hl 2 rfl) ?_
  obtain ⟨h_4, hw⟩ := hw
  refine xP_get F C h_4.1 (pE_2 h_4.2) rfl in_X3 (k := 1) (by decide) q280 (fun _ h9 => u_same (hts _ q281) _ h9) rfl dX5_init_12 ?_
  refine lv_aload_n hx hb dX5_init_15 rfl (lv_at hl 2 rfl) ?_
  obtain ⟨h_5, hw⟩ := hw
  refine xP_get F C h_5.1 (pE_2 h_5.2) rfl in_X3 (k := 4) (by decide) q304 (fun _ h9 => h9) rfl dX5_init_16 ?_
  refine x_callC (rest := []) F C (ctX3_init_c4 hE hw) (cwI 4 hts (lw_meth q301) rfl rfl rfl (hts _ q73) (hts _ q479) (hts _ q300) rfl (by decide +kernel) ⟨Nat.le_of_ble_eq_true rfl, Nat.le_of_ble_eq_true rfl⟩) rfl hl.1 rfl (Nat.le_of_ble_eq_true rfl) dX5_init_19 ⟨Nat.zero_le _, Nat.zero_le _⟩ (fun s_6 H locs hw C => ?_)
  refine lv_aload_n hx hb dX5_init_22 rfl (lv_at hl 0 rfl) ?_
  refine lv_iload_n hx hb dX5_init_23 rfl (lv_at hl 3 rfl) ?_
  obtain ⟨h_7, hw⟩ := hw
  refine xP_putF (v := .int p2) (x := p2) (kf := 4) (ty := .int) F C hin2 h_7.1 (pE_4 h_7.2) rfl in_X5 tyX5_ok nmPX5 (k := 6) (by decide) q480 rfl rfl (by decide +kernel) rfl rfl (Nat.le_of_ble_eq_true rfl) (by rw [pE_4 (v := ((sE s_6 a).1, (sE s_6 a).2.1, upd (sE s_6 a).2.2 4 p2)) h_7.2]; rfl) dX5_init_24 (fun H locs s_8 es_8 C => ?_)
  have hw := hw s_8 es_8
  exact x_vret F C hw dX5_init_27

abbrev rmX2_kind_c1 : Room := { frames := 0, cells := 0, slots := 0, locals := 0 }
def wpX2_kind_c1  (post : Int32 → CS → Prop) (s0 : CS) (a : Nat) : Prop := (post 0 s0)
theorem ctX2_kind_c1 (hE : Em E)  {post : Int32 → CS → Prop} {s0 : CS} {a : Nat} (hw : wpX2_kind_c1  post s0 a) : CtI l yX2_kind (ws_ yX2_kind cX2_kind 1 (some .int)) rmX2_kind_c1 D d E (wX o ad d) 0 0 [.ref a] s0 post := by
  refine CtI.of hE (by decide) rfl (Nat.le_of_ble_eq_true rfl) ?_
  intro p e s m below meth c A ls F C hl
  have hl : lv_has ls 1 [(0, .ref a)] := hl
  unfold wpX2_kind_c1 at hw
  obtain ⟨hx, hb, hr, hml, hown, hts, hlk, hA, hK, -⟩ := id F
  refine lv_iconst (v := 0) hx hb dX2_kind_0 (by decide) ?_
  exact x_iret F C hw dX2_kind_1

abbrev rmX2_isOpen_c1 : Room := { frames := 0, cells := 0, slots := 0, locals := 0 }
def wpX2_isOpen_c1  (post : Int32 → CS → Prop) (s0 : CS) (a : Nat) : Prop := (post 0 s0)
theorem ctX2_isOpen_c1 (hE : Em E)  {post : Int32 → CS → Prop} {s0 : CS} {a : Nat} (hw : wpX2_isOpen_c1  post s0 a) : CtI l yX2_isOpen (ws_ yX2_isOpen cX2_isOpen 1 (some .boolean)) rmX2_isOpen_c1 D d E (wX o ad d) 0 0 [.ref a] s0 post := by
  refine CtI.of hE (by decide) rfl (Nat.le_of_ble_eq_true rfl) ?_
  intro p e s m below meth c A ls F C hl
  have hl : lv_has ls 1 [(0, .ref a)] := hl
  unfold wpX2_isOpen_c1 at hw
  obtain ⟨hx, hb, hr, hml, hown, hts, hlk, hA, hK, -⟩ := id F
  refine lv_iconst (v := 0) hx hb dX2_isOpen_0 (by decide) ?_
  exact x_zret F C zb_0 hw dX2_isOpen_1

abbrev rmX2_isOpen_c3 : Room := { frames := 0, cells := 0, slots := 0, locals := 0 }
def wpX2_isOpen_c3  (post : Int32 → CS → Prop) (s0 : CS) (a : Nat) : Prop := (post 0 s0)
theorem ctX2_isOpen_c3 (hE : Em E)  {post : Int32 → CS → Prop} {s0 : CS} {a : Nat} (hw : wpX2_isOpen_c3  post s0 a) : CtI l yX2_isOpen (ws_ yX2_isOpen cX2_isOpen 1 (some .boolean)) rmX2_isOpen_c3 D d E (wX o ad d) 0 0 [.ref a] s0 post := by
  refine CtI.of hE (by decide) rfl (Nat.le_of_ble_eq_true rfl) ?_
  intro p e s m below meth c A ls F C hl
  have hl : lv_has ls 1 [(0, .ref a)] := hl
  unfold wpX2_isOpen_c3 at hw
  obtain ⟨hx, hb, hr, hml, hown, hts, hlk, hA, hK, -⟩ := id F
  refine lv_iconst (v := 0) hx hb dX2_isOpen_0 (by decide) ?_
  exact x_zret F C zb_0 hw dX2_isOpen_1

abbrev rmX2_mark_c1 : Room := { frames := 0, cells := 0, slots := 0, locals := 0 }
def wpX2_mark_c1  (post : Int32 → CS → Prop) (s0 : CS) (a : Nat) : Prop := (post (-9) s0)
theorem ctX2_mark_c1 (hE : Em E)  {post : Int32 → CS → Prop} {s0 : CS} {a : Nat} (hw : wpX2_mark_c1  post s0 a) : CtI l yX2_mark (ws_ yX2_mark cX2_mark 1 (some .int)) rmX2_mark_c1 D d E (wX o ad d) 0 0 [.ref a] s0 post := by
  refine CtI.of hE (by decide) rfl (Nat.le_of_ble_eq_true rfl) ?_
  intro p e s m below meth c A ls F C hl
  have hl : lv_has ls 1 [(0, .ref a)] := hl
  unfold wpX2_mark_c1 at hw
  obtain ⟨hx, hb, hr, hml, hown, hts, hlk, hA, hK, -⟩ := id F
  refine lv_bipush (v := (-9)) hx hb dX2_mark_0 (by decide) ?_
  exact x_iret F C hw dX2_mark_2

abbrev rmX2_kind_c2 : Room := { frames := 0, cells := 0, slots := 0, locals := 0 }
def wpX2_kind_c2  (post : Int32 → CS → Prop) (s0 : CS) (a : Nat) : Prop := (post 0 s0)
theorem ctX2_kind_c2 (hE : Em E)  {post : Int32 → CS → Prop} {s0 : CS} {a : Nat} (hw : wpX2_kind_c2  post s0 a) : CtI l yX2_kind (ws_ yX2_kind cX2_kind 1 (some .int)) rmX2_kind_c2 D d E (wX o ad d) 0 0 [.ref a] s0 post := by
  refine CtI.of hE (by decide) rfl (Nat.le_of_ble_eq_true rfl) ?_
  intro p e s m below meth c A ls F C hl
  have hl : lv_has ls 1 [(0, .ref a)] := hl
  unfold wpX2_kind_c2 at hw
  obtain ⟨hx, hb, hr, hml, hown, hts, hlk, hA, hK, -⟩ := id F
  refine lv_iconst (v := 0) hx hb dX2_kind_0 (by decide) ?_
  exact x_iret F C hw dX2_kind_1

abbrev rmX3_kind_c2 : Room := { frames := 1, cells := 0, slots := 0, locals := 20 }
def wpX3_kind_c2  (post : Int32 → CS → Prop) (s0 : CS) (a : Nat) : Prop := (okC s0 a 2 ∧ wpX2_kind_c2 (fun r_2 s_1 => (post (r_2 + 1) s_1)) s0 a )
theorem ctX3_kind_c2 (hE : Em E)  {post : Int32 → CS → Prop} {s0 : CS} {a : Nat} (hw : wpX3_kind_c2  post s0 a) : CtI l yX3_kind (ws_ yX3_kind cX3_kind 1 (some .int)) rmX3_kind_c2 D d E (wX o ad d) 0 0 [.ref a] s0 post := by
  refine CtI.of hE (by decide) rfl (Nat.le_of_ble_eq_true rfl) ?_
  intro p e s m below meth c A ls F C hl
  have hl : lv_has ls 1 [(0, .ref a)] := hl
  unfold wpX3_kind_c2 at hw
  obtain ⟨hx, hb, hr, hml, hown, hts, hlk, hA, hK, -⟩ := id F
  refine lv_aload_n hx hb dX3_kind_0 rfl (lv_at hl 0 rfl) ?_
  obtain ⟨h_3, hw⟩ := hw
  refine x_callPS (rest := []) F C h_3.1 (pE_2 h_3.2) rfl (ctX2_kind_c2 hE hw) (va_cwSU 0 hts (lw_SU q354 q347 q314 q345 q72 q360) rfl rfl rfl (by decide +kernel) ⟨Nat.le_of_ble_eq_true rfl, Nat.le_of_ble_eq_true rfl⟩) rfl hl.1 rfl (Nat.le_of_ble_eq_true rfl) dX3_kind_1 ⟨Nat.zero_le _, Nat.zero_le _⟩ (fun r_2 s_1 H locs hw C => ?_)
  refine lv_iconst (v := 1) hx hb dX3_kind_4 (by decide) ?_
  refine lv_iadd hx hb dX3_kind_5 ?_
  exact x_iret F C hw dX3_kind_6

abbrev rmX3_isOpen_c2 : Room := { frames := 0, cells := 0, slots := 0, locals := 0 }
def wpX3_isOpen_c2  (post : Int32 → CS → Prop) (s0 : CS) (a : Nat) : Prop := (okC s0 a 2 ∧ ((((sE s0 a).2.2 2) = 0 → (post 1 s0)) ∧ (¬ ((sE s0 a).2.2 2) = 0 → (post 0 s0))))
theorem ctX3_isOpen_c2 (hE : Em E)  {post : Int32 → CS → Prop} {s0 : CS} {a : Nat} (hw : wpX3_isOpen_c2  post s0 a) : CtI l yX3_isOpen (ws_ yX3_isOpen cX3_isOpen 1 (some .boolean)) rmX3_isOpen_c2 D d E (wX o ad d) 0 0 [.ref a] s0 post := by
  refine CtI.of hE (by decide) rfl (Nat.le_of_ble_eq_true rfl) ?_
  intro p e s m below meth c A ls F C hl
  have hl : lv_has ls 1 [(0, .ref a)] := hl
  unfold wpX3_isOpen_c2 at hw
  obtain ⟨hx, hb, hr, hml, hown, hts, hlk, hA, hK, -⟩ := id F
  refine lv_aload_n hx hb dX3_isOpen_0 rfl (lv_at hl 0 rfl) ?_
  obtain ⟨h_1, hw⟩ := hw
  refine xP_get F C h_1.1 (pE_2 h_1.2) rfl in_X3 (k := 2) (by decide) q284 (fun _ h9 => u_same (hts _ q285) _ h9) rfl dX3_isOpen_1 ?_
  refine lv_if_ne (tgt := 11) hx hb dX3_isOpen_4 (by decide) (fun c_2 => ?_) (fun c_2 => ?_)
  · have hw := hw.2 c_2
    refine lv_iconst (v := 0) hx hb dX3_isOpen_11 (by decide) ?_
    exact x_zret F C zb_0 hw dX3_isOpen_12
  · have hw := hw.1 c_2
    refine lv_iconst (v := 1) hx hb dX3_isOpen_7 (by decide) ?_
    refine lv_goto (tgt := 12) hx hb dX3_isOpen_8 (by decide) ?_
    exact x_zret F C zb_1 hw dX3_isOpen_12

abbrev rmX3_mark_c2 : Room := { frames := 0, cells := 0, slots := 0, locals := 0 }
def wpX3_mark_c2  (post : Int32 → CS → Prop) (s0 : CS) (a : Nat) : Prop := (okC s0 a 2 ∧ (post ((sE s0 a).2.2 3) s0))
theorem ctX3_mark_c2 (hE : Em E)  {post : Int32 → CS → Prop} {s0 : CS} {a : Nat} (hw : wpX3_mark_c2  post s0 a) : CtI l yX3_mark (ws_ yX3_mark cX3_mark 1 (some .int)) rmX3_mark_c2 D d E (wX o ad d) 0 0 [.ref a] s0 post := by
  refine CtI.of hE (by decide) rfl (Nat.le_of_ble_eq_true rfl) ?_
  intro p e s m below meth c A ls F C hl
  have hl : lv_has ls 1 [(0, .ref a)] := hl
  unfold wpX3_mark_c2 at hw
  obtain ⟨hx, hb, hr, hml, hown, hts, hlk, hA, hK, -⟩ := id F
  refine lv_aload_n hx hb dX3_mark_0 rfl (lv_at hl 0 rfl) ?_
  obtain ⟨h_1, hw⟩ := hw
  refine xP_get F C h_1.1 (pE_2 h_1.2) rfl in_X3 (k := 4) (by decide) q303 (fun _ h9 => h9) rfl dX3_mark_1 ?_
  exact x_iret F C hw dX3_mark_4

abbrev rmX4_kind_c3 : Room := { frames := 0, cells := 0, slots := 0, locals := 0 }
def wpX4_kind_c3  (post : Int32 → CS → Prop) (s0 : CS) (a : Nat) : Prop := (post 3 s0)
theorem ctX4_kind_c3 (hE : Em E)  {post : Int32 → CS → Prop} {s0 : CS} {a : Nat} (hw : wpX4_kind_c3  post s0 a) : CtI l yX4_kind (ws_ yX4_kind cX4_kind 1 (some .int)) rmX4_kind_c3 D d E (wX o ad d) 0 0 [.ref a] s0 post := by
  refine CtI.of hE (by decide) rfl (Nat.le_of_ble_eq_true rfl) ?_
  intro p e s m below meth c A ls F C hl
  have hl : lv_has ls 1 [(0, .ref a)] := hl
  unfold wpX4_kind_c3 at hw
  obtain ⟨hx, hb, hr, hml, hown, hts, hlk, hA, hK, -⟩ := id F
  refine lv_iconst (v := 3) hx hb dX4_kind_0 (by decide) ?_
  exact x_iret F C hw dX4_kind_1

abbrev rmX4_counts_c3 : Room := { frames := 0, cells := 0, slots := 0, locals := 0 }
def wX4_counts_c3_16  (post : Int32 → CS → Prop)   (st : CS) : Prop := (post 0 st)
def wpX4_counts_c3  (post : Int32 → CS → Prop) (s0 : CS) (a : Nat) (p0 : Int32) (p1 : Int32) : Prop := ((p0 = 0 → (wX4_counts_c3_16  post  s0)) ∧ (¬ p0 = 0 → (okC s0 a 3 ∧ ((p1 < ((sE s0 a).2.2 3) → (wX4_counts_c3_16  post  s0)) ∧ (¬ p1 < ((sE s0 a).2.2 3) → (post 1 s0))))))
set_option maxHeartbeats 4000000 in
theorem kX4_counts_c3_16  {post : Int32 → CS → Prop}  (F : Fx p s m args meth c cX4_counts 3 RX4 (some .boolean) D d E A) : ∀  (st : CS) (H : Heap) (locs : List Loc) (ls : Array Slot), wX4_counts_c3_16  post  st → Cx D (wX o ad d) A s st H locs → lv_has ls 3 [] → W p l e (headSpec (ws_ yX4_counts cX4_counts 3 (some .boolean)) rmX4_counts_c3).room s m args below meth c H locs 0 0 (QI below D d E (wX o ad d) A args s 0 0 post) (F0 m 16 ls []) := by
  obtain ⟨hx, hb, hr, hml, hown, hts, hlk, hA, hK, hE⟩ := id F
  intro st H locs ls hw C hl
  unfold wX4_counts_c3_16 at hw
  refine lv_iconst (v := 0) hx hb dX4_counts_16 (by decide) ?_
  exact x_zret F C zb_0 hw dX4_counts_17
theorem ctX4_counts_c3 (hE : Em E)  {post : Int32 → CS → Prop} {s0 : CS} {a : Nat} {p0 : Int32} {p1 : Int32} (hw : wpX4_counts_c3  post s0 a p0 p1) : CtI l yX4_counts (ws_ yX4_counts cX4_counts 3 (some .boolean)) rmX4_counts_c3 D d E (wX o ad d) 0 0 [.ref a, .int p0, .int p1] s0 post := by
  refine CtI.of hE (by decide) rfl (Nat.le_of_ble_eq_true rfl) ?_
  intro p e s m below meth c A ls F C hl
  have hl : lv_has ls 3 [(0, .ref a), (1, .int p0), (2, .int p1)] := hl
  unfold wpX4_counts_c3 at hw
  obtain ⟨hx, hb, hr, hml, hown, hts, hlk, hA, hK, -⟩ := id F
  refine lv_iload_n hx hb dX4_counts_0 rfl (lv_at hl 1 rfl) ?_
  refine lv_if_eq (tgt := 16) hx hb dX4_counts_1 (by decide) (fun c_1 => ?_) (fun c_1 => ?_)
  · have hw := hw.1 c_1
    exact kX4_counts_c3_16  F  s0 _ _ _ hw C (lv_sub hl [] rfl)
  · have hw := hw.2 c_1
    refine lv_aload_n hx hb dX4_counts_4 rfl (lv_at hl 0 rfl) ?_
    obtain ⟨h_2, hw⟩ := hw
    refine xP_get F C h_2.1 (pE_3 h_2.2) rfl in_X4 (k := 4) (by decide) q321 (fun _ h9 => h9) rfl dX4_counts_5 ?_
    refine lv_iload_n hx hb dX4_counts_8 rfl (lv_at hl 2 rfl) ?_
    refine lv_icmp_gt (tgt := 16) hx hb dX4_counts_9 (by decide) (fun c_3 => ?_) (fun c_3 => ?_)
    · have hw := hw.1 c_3
      exact kX4_counts_c3_16  F  s0 _ _ _ hw C (lv_sub hl [] rfl)
    · have hw := hw.2 c_3
      refine lv_iconst (v := 1) hx hb dX4_counts_12 (by decide) ?_
      refine lv_goto (tgt := 17) hx hb dX4_counts_13 (by decide) ?_
      exact x_zret F C zb_1 hw dX4_counts_17

abbrev rmX4_mark_c3 : Room := { frames := 0, cells := 0, slots := 0, locals := 0 }
def wpX4_mark_c3  (post : Int32 → CS → Prop) (s0 : CS) (a : Nat) : Prop := (okC s0 a 3 ∧ (post ((sE s0 a).2.2 3) s0))
theorem ctX4_mark_c3 (hE : Em E)  {post : Int32 → CS → Prop} {s0 : CS} {a : Nat} (hw : wpX4_mark_c3  post s0 a) : CtI l yX4_mark (ws_ yX4_mark cX4_mark 1 (some .int)) rmX4_mark_c3 D d E (wX o ad d) 0 0 [.ref a] s0 post := by
  refine CtI.of hE (by decide) rfl (Nat.le_of_ble_eq_true rfl) ?_
  intro p e s m below meth c A ls F C hl
  have hl : lv_has ls 1 [(0, .ref a)] := hl
  unfold wpX4_mark_c3 at hw
  obtain ⟨hx, hb, hr, hml, hown, hts, hlk, hA, hK, -⟩ := id F
  refine lv_aload_n hx hb dX4_mark_0 rfl (lv_at hl 0 rfl) ?_
  obtain ⟨h_1, hw⟩ := hw
  refine xP_get F C h_1.1 (pE_3 h_1.2) rfl in_X4 (k := 4) (by decide) q321 (fun _ h9 => h9) rfl dX4_mark_1 ?_
  exact x_iret F C hw dX4_mark_4

abbrev rmX2_kind_c4 : Room := { frames := 0, cells := 0, slots := 0, locals := 0 }
def wpX2_kind_c4  (post : Int32 → CS → Prop) (s0 : CS) (a : Nat) : Prop := (post 0 s0)
theorem ctX2_kind_c4 (hE : Em E)  {post : Int32 → CS → Prop} {s0 : CS} {a : Nat} (hw : wpX2_kind_c4  post s0 a) : CtI l yX2_kind (ws_ yX2_kind cX2_kind 1 (some .int)) rmX2_kind_c4 D d E (wX o ad d) 0 0 [.ref a] s0 post := by
  refine CtI.of hE (by decide) rfl (Nat.le_of_ble_eq_true rfl) ?_
  intro p e s m below meth c A ls F C hl
  have hl : lv_has ls 1 [(0, .ref a)] := hl
  unfold wpX2_kind_c4 at hw
  obtain ⟨hx, hb, hr, hml, hown, hts, hlk, hA, hK, -⟩ := id F
  refine lv_iconst (v := 0) hx hb dX2_kind_0 (by decide) ?_
  exact x_iret F C hw dX2_kind_1

abbrev rmX3_kind_c4 : Room := { frames := 1, cells := 0, slots := 0, locals := 20 }
def wpX3_kind_c4  (post : Int32 → CS → Prop) (s0 : CS) (a : Nat) : Prop := (okC s0 a 4 ∧ wpX2_kind_c4 (fun r_2 s_1 => (post (r_2 + 1) s_1)) s0 a )
theorem ctX3_kind_c4 (hE : Em E)  {post : Int32 → CS → Prop} {s0 : CS} {a : Nat} (hw : wpX3_kind_c4  post s0 a) : CtI l yX3_kind (ws_ yX3_kind cX3_kind 1 (some .int)) rmX3_kind_c4 D d E (wX o ad d) 0 0 [.ref a] s0 post := by
  refine CtI.of hE (by decide) rfl (Nat.le_of_ble_eq_true rfl) ?_
  intro p e s m below meth c A ls F C hl
  have hl : lv_has ls 1 [(0, .ref a)] := hl
  unfold wpX3_kind_c4 at hw
  obtain ⟨hx, hb, hr, hml, hown, hts, hlk, hA, hK, -⟩ := id F
  refine lv_aload_n hx hb dX3_kind_0 rfl (lv_at hl 0 rfl) ?_
  obtain ⟨h_3, hw⟩ := hw
  refine x_callPS (rest := []) F C h_3.1 (pE_4 h_3.2) rfl (ctX2_kind_c4 hE hw) (va_cwSU 0 hts (lw_SU q354 q347 q314 q345 q72 q360) rfl rfl rfl (by decide +kernel) ⟨Nat.le_of_ble_eq_true rfl, Nat.le_of_ble_eq_true rfl⟩) rfl hl.1 rfl (Nat.le_of_ble_eq_true rfl) dX3_kind_1 ⟨Nat.zero_le _, Nat.zero_le _⟩ (fun r_2 s_1 H locs hw C => ?_)
  refine lv_iconst (v := 1) hx hb dX3_kind_4 (by decide) ?_
  refine lv_iadd hx hb dX3_kind_5 ?_
  exact x_iret F C hw dX3_kind_6

abbrev rmX5_kind_c4 : Room := { frames := 2, cells := 0, slots := 0, locals := 40 }
def wpX5_kind_c4  (post : Int32 → CS → Prop) (s0 : CS) (a : Nat) : Prop := (okC s0 a 4 ∧ wpX3_kind_c4 (fun r_2 s_1 => (post (r_2 + 1) s_1)) s0 a )
theorem ctX5_kind_c4 (hE : Em E)  {post : Int32 → CS → Prop} {s0 : CS} {a : Nat} (hw : wpX5_kind_c4  post s0 a) : CtI l yX5_kind (ws_ yX5_kind cX5_kind 1 (some .int)) rmX5_kind_c4 D d E (wX o ad d) 0 0 [.ref a] s0 post := by
  refine CtI.of hE (by decide) rfl (Nat.le_of_ble_eq_true rfl) ?_
  intro p e s m below meth c A ls F C hl
  have hl : lv_has ls 1 [(0, .ref a)] := hl
  unfold wpX5_kind_c4 at hw
  obtain ⟨hx, hb, hr, hml, hown, hts, hlk, hA, hK, -⟩ := id F
  refine lv_aload_n hx hb dX5_kind_0 rfl (lv_at hl 0 rfl) ?_
  obtain ⟨h_3, hw⟩ := hw
  refine x_callPS (rest := []) F C h_3.1 (pE_4 h_3.2) rfl (ctX3_kind_c4 hE hw) (va_cwSU 0 hts (lw_SU q358 q1322 q359 q352 q73 q353) rfl rfl rfl (by decide +kernel) ⟨Nat.le_of_ble_eq_true rfl, Nat.le_of_ble_eq_true rfl⟩) rfl hl.1 rfl (Nat.le_of_ble_eq_true rfl) dX5_kind_1 ⟨Nat.zero_le _, Nat.zero_le _⟩ (fun r_2 s_1 H locs hw C => ?_)
  refine lv_iconst (v := 1) hx hb dX5_kind_4 (by decide) ?_
  refine lv_iadd hx hb dX5_kind_5 ?_
  exact x_iret F C hw dX5_kind_6

abbrev rmX5_isOpen_c4 : Room := { frames := 0, cells := 0, slots := 0, locals := 0 }
def wpX5_isOpen_c4  (post : Int32 → CS → Prop) (s0 : CS) (a : Nat) : Prop := (post 0 s0)
theorem ctX5_isOpen_c4 (hE : Em E)  {post : Int32 → CS → Prop} {s0 : CS} {a : Nat} (hw : wpX5_isOpen_c4  post s0 a) : CtI l yX5_isOpen (ws_ yX5_isOpen cX5_isOpen 1 (some .boolean)) rmX5_isOpen_c4 D d E (wX o ad d) 0 0 [.ref a] s0 post := by
  refine CtI.of hE (by decide) rfl (Nat.le_of_ble_eq_true rfl) ?_
  intro p e s m below meth c A ls F C hl
  have hl : lv_has ls 1 [(0, .ref a)] := hl
  unfold wpX5_isOpen_c4 at hw
  obtain ⟨hx, hb, hr, hml, hown, hts, hlk, hA, hK, -⟩ := id F
  refine lv_iconst (v := 0) hx hb dX5_isOpen_0 (by decide) ?_
  exact x_zret F C zb_0 hw dX5_isOpen_1

abbrev rmX5_mark_c4 : Room := { frames := 0, cells := 0, slots := 0, locals := 0 }
def wpX5_mark_c4  (post : Int32 → CS → Prop) (s0 : CS) (a : Nat) : Prop := (okC s0 a 4 ∧ (post ((sE s0 a).2.2 4) s0))
theorem ctX5_mark_c4 (hE : Em E)  {post : Int32 → CS → Prop} {s0 : CS} {a : Nat} (hw : wpX5_mark_c4  post s0 a) : CtI l yX5_mark (ws_ yX5_mark cX5_mark 1 (some .int)) rmX5_mark_c4 D d E (wX o ad d) 0 0 [.ref a] s0 post := by
  refine CtI.of hE (by decide) rfl (Nat.le_of_ble_eq_true rfl) ?_
  intro p e s m below meth c A ls F C hl
  have hl : lv_has ls 1 [(0, .ref a)] := hl
  unfold wpX5_mark_c4 at hw
  obtain ⟨hx, hb, hr, hml, hown, hts, hlk, hA, hK, -⟩ := id F
  refine lv_aload_n hx hb dX5_mark_0 rfl (lv_at hl 0 rfl) ?_
  obtain ⟨h_1, hw⟩ := hw
  refine xP_get F C h_1.1 (pE_4 h_1.2) rfl in_X5 (k := 6) (by decide) q480 (fun _ h9 => h9) rfl dX5_mark_1 ?_
  exact x_iret F C hw dX5_mark_4

abbrev rmX3_mark_c4 : Room := { frames := 0, cells := 0, slots := 0, locals := 0 }
def wpX3_mark_c4  (post : Int32 → CS → Prop) (s0 : CS) (a : Nat) : Prop := (okC s0 a 4 ∧ (post ((sE s0 a).2.2 3) s0))
theorem ctX3_mark_c4 (hE : Em E)  {post : Int32 → CS → Prop} {s0 : CS} {a : Nat} (hw : wpX3_mark_c4  post s0 a) : CtI l yX3_mark (ws_ yX3_mark cX3_mark 1 (some .int)) rmX3_mark_c4 D d E (wX o ad d) 0 0 [.ref a] s0 post := by
  refine CtI.of hE (by decide) rfl (Nat.le_of_ble_eq_true rfl) ?_
  intro p e s m below meth c A ls F C hl
  have hl : lv_has ls 1 [(0, .ref a)] := hl
  unfold wpX3_mark_c4 at hw
  obtain ⟨hx, hb, hr, hml, hown, hts, hlk, hA, hK, -⟩ := id F
  refine lv_aload_n hx hb dX3_mark_0 rfl (lv_at hl 0 rfl) ?_
  obtain ⟨h_1, hw⟩ := hw
  refine xP_get F C h_1.1 (pE_4 h_1.2) rfl in_X5 (k := 4) (by decide) q303 (fun _ h9 => h9) rfl dX3_mark_1 ?_
  exact x_iret F C hw dX3_mark_4

abbrev rmX5_asClaimed_c4 : Room := { frames := 1, cells := 0, slots := 0, locals := 20 }
def wpX5_asClaimed_c4  (post : Int32 → CS → Prop) (s0 : CS) (a : Nat) : Prop := (okC s0 a 4 ∧ wpX3_mark_c4 (fun r_2 s_1 => (post r_2 s_1)) s0 a )
theorem ctX5_asClaimed_c4 (hE : Em E)  {post : Int32 → CS → Prop} {s0 : CS} {a : Nat} (hw : wpX5_asClaimed_c4  post s0 a) : CtI l yX5_asClaimed (ws_ yX5_asClaimed cX5_asClaimed 1 (some .int)) rmX5_asClaimed_c4 D d E (wX o ad d) 0 0 [.ref a] s0 post := by
  refine CtI.of hE (by decide) rfl (Nat.le_of_ble_eq_true rfl) ?_
  intro p e s m below meth c A ls F C hl
  have hl : lv_has ls 1 [(0, .ref a)] := hl
  unfold wpX5_asClaimed_c4 at hw
  obtain ⟨hx, hb, hr, hml, hown, hts, hlk, hA, hK, -⟩ := id F
  refine lv_aload_n hx hb dX5_asClaimed_0 rfl (lv_at hl 0 rfl) ?_
  obtain ⟨h_3, hw⟩ := hw
  refine x_callPS (rest := []) F C h_3.1 (pE_4 h_3.2) rfl (ctX3_mark_c4 hE hw) (va_cwSU 0 hts (lw_SU q456 q1324 q359 q457 q73 q458) rfl rfl rfl (by decide +kernel) ⟨Nat.le_of_ble_eq_true rfl, Nat.le_of_ble_eq_true rfl⟩) rfl hl.1 rfl (Nat.le_of_ble_eq_true rfl) dX5_asClaimed_1 ⟨Nat.zero_le _, Nat.zero_le _⟩ (fun r_2 s_1 H locs hw C => ?_)
  exact x_iret F C hw dX5_asClaimed_4

abbrev rmX6_counts_c1 : Room := { frames := 0, cells := 0, slots := 0, locals := 0 }
def wpX6_counts_c1  (post : Int32 → CS → Prop) (s0 : CS) (a : Nat) (p0 : Int32) (p1 : Int32) : Prop := (post 1 s0)
theorem ctX6_counts_c1 (hE : Em E)  {post : Int32 → CS → Prop} {s0 : CS} {a : Nat} {p0 : Int32} {p1 : Int32} (hw : wpX6_counts_c1  post s0 a p0 p1) : CtI l yX6_counts (ws_ yX6_counts cX6_counts 3 (some .boolean)) rmX6_counts_c1 D d E (wX o ad d) 0 0 [.ref a, .int p0, .int p1] s0 post := by
  refine CtI.of hE (by decide) rfl (Nat.le_of_ble_eq_true rfl) ?_
  intro p e s m below meth c A ls F C hl
  have hl : lv_has ls 3 [(0, .ref a), (1, .int p0), (2, .int p1)] := hl
  unfold wpX6_counts_c1 at hw
  obtain ⟨hx, hb, hr, hml, hown, hts, hlk, hA, hK, -⟩ := id F
  refine lv_iconst (v := 1) hx hb dX6_counts_0 (by decide) ?_
  exact x_zret F C zb_1 hw dX6_counts_1
end
