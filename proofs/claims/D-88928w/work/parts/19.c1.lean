section
variable {p : Program} {l : Launch} {e : Env} {s : State} {m : MethodId} {args : Array Value} {below : List Frame} {meth : Method} {c : Code} {D : va_G} {d : Nat → ClassId} {E : State → Prop} {A : Nat → Prop} {wf : CS → va_W} {o : Nat} {ad : Nat → Nat}
set_option maxRecDepth 100000
abbrev rmX0_note : Room := { frames := 3, cells := 0, slots := 0, locals := 64 }
def wpX0_note  (post : Int32 → CS → Prop) (s0 : CS) (p0 : Int32) (p1 : Int32) : Prop := (wpX0_isSheet (fun r_2 s_1 => ((r_2 = 0 → (post (-1) s_1)) ∧ (¬ r_2 = 0 → (wpX0_isDead (fun r_5 s_4 => ((r_5 = 0 → (post (-1) s_4)) ∧ (¬ r_5 = 0 → (vp_in p0 4 ∧ (((sR s_4 40 p0.toNatClampNeg) = none → (wpX0_found (fun r_23 s_22 => (post r_23 s_22)) s_4 1)) ∧ (¬ (sR s_4 40 p0.toNatClampNeg) = none → (vp_in p0 4 ∧ (∃ a_10 : Nat, (sR s_4 40 p0.toNatClampNeg) = some a_10 ∧ okC s_4 a_10 0 ∧ (∀ x3_12 : Int32, x3_12 = (if (nI (sE s_4 a_10).2.1) < (sI s_4 6) then (nI (sE s_4 a_10).2.1) else (sI s_4 6)) → (vp_in p0 4 ∧ (∃ a_14 : Nat, (sR s_4 40 p0.toNatClampNeg) = some a_14 ∧ okC s_4 a_14 0 ∧ ¬ (24 * p1) < 0 ∧ ¬ (0 : Int32) < 0 ∧ ¬ x3_12 < 0 ∧ (24 * p1).toNatClampNeg + x3_12.toNatClampNeg ≤ 576 ∧ (0 : Int32).toNatClampNeg + x3_12.toNatClampNeg ≤ (sE s_4 a_14).2.1 ∧ ∀ s_16 : CS, s_16 = uE s_4 a_14 (0, (sE s_4 a_14).2.1, va_cpy (sA s_4 39) (sE s_4 a_14).2.2 (24 * p1).toNatClampNeg (0 : Int32).toNatClampNeg x3_12.toNatClampNeg) → (post x3_12 s_16)))))))))))) s_1 p1)))) s0 p0)
theorem ctX0_note (hE : Em E) (hX : ∀ U, E U → EL U) {post : Int32 → CS → Prop} {s0 : CS} {p0 p1 : Int32} (hw : wpX0_note  post s0 p0 p1) : CtI l yX0_note (ws_ yX0_note cX0_note 4 (some .int)) rmX0_note D d E (wX o ad d) 0 0 [.ref o, .int p0, .int p1] s0 post := by
  refine CtI.of hE (by decide) rfl (Nat.le_of_ble_eq_true rfl) ?_
  intro p e s m below meth c A ls F C hl
  have hl : lv_has ls 4 [(0, .ref o), (1, .int p0), (2, .int p1)] := hl
  unfold wpX0_note at hw
  obtain ⟨hx, hb, hr, hml, hown, hts, hlk, hA, hK, -⟩ := id F
  refine lv_iload_n hx hb dX0_note_0 rfl (lv_at hl 1 rfl) ?_
  refine x_callSI (rest := []) F C (ctX0_isSheet hE hw) (va_cwS 1 hts (lw_S q770 q771 q70 q772) rfl rfl rfl (by decide +kernel) ⟨Nat.le_of_ble_eq_true rfl, Nat.le_of_ble_eq_true rfl⟩) rfl hl.1 rfl (Nat.le_of_ble_eq_true rfl) dX0_note_1 ⟨Nat.zero_le _, Nat.zero_le _⟩ (fun r_2 s_1 H locs hw C => ?_)
  refine lv_if_eq (tgt := 15) hx hb dX0_note_4 (by decide) (fun c_3 => ?_) (fun c_3 => ?_)
  · have hw := hw.1 c_3
    refine lv_iconst (v := (-1)) hx hb dX0_note_15 (by decide) ?_
    exact x_iret F C hw dX0_note_16
  · have hw := hw.2 c_3
    refine lv_aload_n hx hb dX0_note_7 rfl (lv_at hl 0 rfl) ?_
    refine lv_iload_n hx hb dX0_note_8 rfl (lv_at hl 2 rfl) ?_
    refine x_callI (rest := []) (ci := 0) (q := (RX0, TX0, 41)) F C (ctX0_isDead hE hX hw) (cwV 1 hts (lw_V q512 q514 qs9 q70 q515) rfl rfl rfl (by decide +kernel) ⟨Nat.le_of_ble_eq_true rfl, Nat.le_of_ble_eq_true rfl⟩) rfl rfl rfl hl.1 rfl (Nat.le_of_ble_eq_true rfl) dX0_note_9 ⟨Nat.zero_le _, Nat.zero_le _⟩ (fun r_5 s_4 H locs hw C => ?_)
    refine lv_if_ne (tgt := 17) hx hb dX0_note_12 (by decide) (fun c_6 => ?_) (fun c_6 => ?_)
    · have hw := hw.2 c_6
      refine lv_aload_n hx hb dX0_note_17 rfl (lv_at hl 0 rfl) ?_
      refine x0_g40 F C dX0_note_18 ?_
      refine lv_iload_n hx hb dX0_note_21 rfl (lv_at hl 1 rfl) ?_
      obtain ⟨h_7, hw⟩ := hw
      refine x0_ldS F C h_7 dX0_note_22 ?_
      refine lv_ifnnQ (tgt := 32) hx hb dX0_note_23 (by decide) (fun c_8 => ?_) (fun c_8 => ?_)
      · have hw := hw.2 c_8
        refine lv_aload_n hx hb dX0_note_32 rfl (lv_at hl 0 rfl) ?_
        refine x0_g6 F C dX0_note_33 ?_
        refine lv_aload_n hx hb dX0_note_36 rfl (lv_at hl 0 rfl) ?_
        refine x0_g40 F C dX0_note_37 ?_
        refine lv_iload_n hx hb dX0_note_40 rfl (lv_at hl 1 rfl) ?_
        obtain ⟨h_9, hw⟩ := hw
        refine x0_ldS F C h_9 dX0_note_41 ?_
        obtain ⟨a_10, ha_10, h_11, hw⟩ := hw
        rw [ha_10]
        refine x0_alenS F C h_11 dX0_note_42 ?_
        refine va_mmin hx hb (by rw [hml]; exact hl.1.symm) hown (hts _ q777) (hts _ q778) (hts _ q81) (hts _ q779) (Nat.le_of_ble_eq_true rfl) (Nat.le_of_ble_eq_true rfl) (Nat.zero_le _) (Nat.zero_le _) dX0_note_43 ?_
        refine lv_topi (fun x3_12 ex3_12 => ?_)
        have hw := hw x3_12 ex3_12
        refine lv_istore_n (lv' := [(3, .int x3_12), (0, .ref o), (1, .int p0), (2, .int p1)]) hx hb dX0_note_46 rfl hl (by decide) rfl (fun ls hl => ?_)
        refine lv_aload_n hx hb dX0_note_47 rfl (lv_at hl 1 rfl) ?_
        refine x0_g39 F C dX0_note_48 ?_
        refine lv_bipush (v := 24) hx hb dX0_note_51 (by decide) ?_
        refine lv_iload_n hx hb dX0_note_53 rfl (lv_at hl 3 rfl) ?_
        refine lv_imul hx hb dX0_note_54 ?_
        refine lv_aload_n hx hb dX0_note_55 rfl (lv_at hl 1 rfl) ?_
        refine x0_g40 F C dX0_note_56 ?_
        refine lv_iload_n hx hb dX0_note_59 rfl (lv_at hl 2 rfl) ?_
        obtain ⟨h_13, hw⟩ := hw
        refine x0_ldS F C h_13 dX0_note_60 ?_
        refine lv_iconst (v := 0) hx hb dX0_note_61 (by decide) ?_
        refine lv_iload_n hx hb dX0_note_62 rfl (lv_at hl 0 rfl) ?_
        obtain ⟨a_14, ha_14, h_15, h_17, h_18, h_19, h_20, h_21, hw⟩ := hw
        rw [ha_14]
        refine x0_copyP F C hl.1 h_15 q780 h_17 h_18 h_19 h_20 h_21 (hts _ q782) (hts _ q781) (hts _ q85) (Nat.le_of_ble_eq_true rfl) (Nat.le_of_ble_eq_true rfl) dX0_note_63 (fun H locs s_16 es_16 C => ?_)
        have hw := hw s_16 es_16
        refine lv_iload_n hx hb dX0_note_66 rfl (lv_at hl 0 rfl) ?_
        exact x_iret F C hw dX0_note_67
      · have hw := hw.1 c_8
        refine lv_aload_n hx hb dX0_note_26 rfl (lv_at hl 0 rfl) ?_
        refine lv_iconst (v := 1) hx hb dX0_note_27 (by decide) ?_
        refine x_callI (rest := []) (ci := 0) (q := (RX0, TX0, 41)) F C (ctX0_found hE hX hw) (cwV 1 hts (lw_V q467 q469 qs7 q70 q470) rfl rfl rfl (by decide +kernel) ⟨Nat.le_of_ble_eq_true rfl, Nat.le_of_ble_eq_true rfl⟩) rfl rfl rfl hl.1 rfl (Nat.le_of_ble_eq_true rfl) dX0_note_28 ⟨Nat.zero_le _, Nat.zero_le _⟩ (fun r_23 s_22 H locs hw C => ?_)
        exact x_iret F C hw dX0_note_31
    · have hw := hw.1 c_6
      refine lv_iconst (v := (-1)) hx hb dX0_note_15 (by decide) ?_
      exact x_iret F C hw dX0_note_16

abbrev rmX0_tear : Room := { frames := 2, cells := 0, slots := 0, locals := 42 }
def wpX0_tear  (post : Int32 → CS → Prop) (s0 : CS) (p0 : Int32) : Prop := (wpX0_isSheet (fun r_2 s_1 => ((r_2 = 0 → (post (-1) s_1)) ∧ (¬ r_2 = 0 → (vp_in p0 4 ∧ (((sR s_1 40 p0.toNatClampNeg) = none → (wpX0_found (fun r_9 s_8 => (post r_9 s_8)) s_1 1)) ∧ (¬ (sR s_1 40 p0.toNatClampNeg) = none → (vp_in p0 4 ∧ ∀ s_7 : CS, s_7 = uR s_1 40 p0.toNatClampNeg none → (post 1 s_7)))))))) s0 p0)
theorem ctX0_tear (hE : Em E) (hX : ∀ U, E U → EL U) {post : Int32 → CS → Prop} {s0 : CS} {p0 : Int32} (hw : wpX0_tear  post s0 p0) : CtI l yX0_tear (ws_ yX0_tear cX0_tear 2 (some .int)) rmX0_tear D d E (wX o ad d) 0 0 [.ref o, .int p0] s0 post := by
  refine CtI.of hE (by decide) rfl (Nat.le_of_ble_eq_true rfl) ?_
  intro p e s m below meth c A ls F C hl
  have hl : lv_has ls 2 [(0, .ref o), (1, .int p0)] := hl
  unfold wpX0_tear at hw
  obtain ⟨hx, hb, hr, hml, hown, hts, hlk, hA, hK, -⟩ := id F
  refine lv_iload_n hx hb dX0_tear_0 rfl (lv_at hl 1 rfl) ?_
  refine x_callSI (rest := []) F C (ctX0_isSheet hE hw) (va_cwS 1 hts (lw_S q770 q771 q70 q772) rfl rfl rfl (by decide +kernel) ⟨Nat.le_of_ble_eq_true rfl, Nat.le_of_ble_eq_true rfl⟩) rfl hl.1 rfl (Nat.le_of_ble_eq_true rfl) dX0_tear_1 ⟨Nat.zero_le _, Nat.zero_le _⟩ (fun r_2 s_1 H locs hw C => ?_)
  refine lv_if_ne (tgt := 9) hx hb dX0_tear_4 (by decide) (fun c_3 => ?_) (fun c_3 => ?_)
  · have hw := hw.2 c_3
    refine lv_aload_n hx hb dX0_tear_9 rfl (lv_at hl 0 rfl) ?_
    refine x0_g40 F C dX0_tear_10 ?_
    refine lv_iload_n hx hb dX0_tear_13 rfl (lv_at hl 1 rfl) ?_
    obtain ⟨h_4, hw⟩ := hw
    refine x0_ldS F C h_4 dX0_tear_14 ?_
    refine lv_ifnnQ (tgt := 24) hx hb dX0_tear_15 (by decide) (fun c_5 => ?_) (fun c_5 => ?_)
    · have hw := hw.2 c_5
      refine lv_aload_n hx hb dX0_tear_24 rfl (lv_at hl 0 rfl) ?_
      refine x0_g40 F C dX0_tear_25 ?_
      refine lv_iload_n hx hb dX0_tear_28 rfl (lv_at hl 1 rfl) ?_
      refine lv_null hx hb dX0_tear_29 ?_
      obtain ⟨h_6, hw⟩ := hw
      refine x0_stSN F C h_6 dX0_tear_30 (fun H locs s_7 es_7 C => ?_)
      have hw := hw s_7 es_7
      refine lv_iconst (v := 1) hx hb dX0_tear_31 (by decide) ?_
      exact x_iret F C hw dX0_tear_32
    · have hw := hw.1 c_5
      refine lv_aload_n hx hb dX0_tear_18 rfl (lv_at hl 0 rfl) ?_
      refine lv_iconst (v := 1) hx hb dX0_tear_19 (by decide) ?_
      refine x_callI (rest := []) (ci := 0) (q := (RX0, TX0, 41)) F C (ctX0_found hE hX hw) (cwV 1 hts (lw_V q467 q469 qs7 q70 q470) rfl rfl rfl (by decide +kernel) ⟨Nat.le_of_ble_eq_true rfl, Nat.le_of_ble_eq_true rfl⟩) rfl rfl rfl hl.1 rfl (Nat.le_of_ble_eq_true rfl) dX0_tear_20 ⟨Nat.zero_le _, Nat.zero_le _⟩ (fun r_9 s_8 H locs hw C => ?_)
      exact x_iret F C hw dX0_tear_23
  · have hw := hw.1 c_3
    refine lv_iconst (v := (-1)) hx hb dX0_tear_7 (by decide) ?_
    exact x_iret F C hw dX0_tear_8

abbrev rmX0_digest : Room := { frames := 4, cells := 0, slots := 0, locals := 83 }
def wX0_digest_212  (post : Int64 → CS → Prop) (k144 : Int64 → Int32 → CS → Prop) (x1 : Int64) (x3 : Int32) (st : CS) : Prop := (∀ x3_11 : Int32, x3_11 = x3 + 1 → (k144 x1 x3_11 st))
def wX0_digest_180  (post : Int64 → CS → Prop) (k144 : Int64 → Int32 → CS → Prop) : Nat → Int64 → Int32 → Option Nat → Int32 → CS → Prop
  | 0 => fun _ _ _ _ _ => False
  | n + 1 => fun x1 x3 x4 x5 st => ((x4 = none → (wX0_digest_212  post k144 x1 x3 st)) ∧ (¬ x4 = none → (∃ a_12 : Nat, x4 = some a_12 ∧ okC st a_12 0 ∧ (((nI (sE st a_12).2.1) ≤ x5 → (wX0_digest_212  post k144 x1 x3 st)) ∧ (¬ (nI (sE st a_12).2.1) ≤ x5 → (∃ a_15 : Nat, x4 = some a_15 ∧ okC st a_15 0 ∧ vp_in x5 (sE st a_15).2.1 ∧ (∀ x1_18 : Int64, x1_18 = ((31 * x1) + (((sE st a_15).2.2 x5.toNatClampNeg).toInt64)) → (∀ x5_19 : Int32, x5_19 = x5 + 1 → (wX0_digest_180  post k144 n x1_18 x3 x4 x5_19 st)))))))))
def wX0_digest_174  (post : Int64 → CS → Prop) (k144 : Int64 → Int32 → CS → Prop) (x3 : Int32) (x4 : Option Nat) (y0 : Int32) (y1 : Int64) (st : CS) : Prop := (∀ x1_9 : Int64, x1_9 = (y1 + y0.toInt64) → (∃ fu : Nat, wX0_digest_180  post k144 fu x1_9 x3 x4 0 st))
def wX0_digest_144  (post : Int64 → CS → Prop)  : Nat → Int64 → Int32 → CS → Prop
  | 0 => fun _ _ _ => False
  | n + 1 => fun x1 x3 st => ((4 ≤ x3 → (post x1 st)) ∧ (¬ 4 ≤ x3 → (vp_in x3 4 ∧ (((sR st 40 x3.toNatClampNeg) = none → (wX0_digest_174  post (wX0_digest_144  post  n) x3 (sR st 40 x3.toNatClampNeg) (-1) (31 * x1) st)) ∧ (¬ (sR st 40 x3.toNatClampNeg) = none → (∃ a_7 : Nat, (sR st 40 x3.toNatClampNeg) = some a_7 ∧ okC st a_7 0 ∧ (wX0_digest_174  post (wX0_digest_144  post  n) x3 (sR st 40 x3.toNatClampNeg) (nI (sE st a_7).2.1) (31 * x1) st)))))))
def wX0_digest_109  (post : Int64 → CS → Prop) (k98 : Int64 → Int32 → CS → Prop) : Nat → Int64 → Int32 → Int32 → CS → Prop
  | 0 => fun _ _ _ _ => False
  | n + 1 => fun x1 x3 x4 st => ((4 ≤ x4 → (∀ x3_21 : Int32, x3_21 = x3 + 1 → (k98 x1 x3_21 st))) ∧ (¬ 4 ≤ x4 → (wpX0_lineOf (fun r_23 s_22 => (∀ x1_24 : Int64, x1_24 = ((31 * x1) + r_23.toInt64) → (∀ x4_25 : Int32, x4_25 = x4 + 1 → (wX0_digest_109  post k98 n x1_24 x3 x4_25 s_22)))) st x3 x4)))
def wX0_digest_98  (post : Int64 → CS → Prop)  : Nat → Int64 → Int32 → CS → Prop
  | 0 => fun _ _ _ => False
  | n + 1 => fun x1 x3 st => (((sI st 11) ≤ x3 → (∃ fu : Nat, wX0_digest_144  post  fu x1 0 st)) ∧ (¬ (sI st 11) ≤ x3 → (∃ fu : Nat, wX0_digest_109  post (wX0_digest_98  post  n) fu x1 x3 0 st)))
def wX0_digest_43  (post : Int64 → CS → Prop) (k32 : Int64 → Int32 → CS → Prop) : Nat → Int64 → Int32 → Int32 → CS → Prop
  | 0 => fun _ _ _ _ => False
  | n + 1 => fun x1 x3 x4 st => ((5 ≤ x4 → (vp_in x3 24 ∧ (wpX0_paidOf (fun r_29 s_28 => (∀ x1_30 : Int64, x1_30 = (((31 * x1) + ((sA st 38 x3.toNatClampNeg).toInt64)) - r_29) → (∀ x3_31 : Int32, x3_31 = x3 + 1 → (k32 x1_30 x3_31 s_28)))) st x3))) ∧ (¬ 5 ≤ x4 → (wpX0_told (fun r_33 s_32 => (∀ x1_34 : Int64, x1_34 = ((31 * x1) + r_33.toInt64) → (∀ x4_35 : Int32, x4_35 = x4 + 1 → (wX0_digest_43  post k32 n x1_34 x3 x4_35 s_32)))) st x3 x4)))
def wX0_digest_32  (post : Int64 → CS → Prop)  : Nat → Int64 → Int32 → CS → Prop
  | 0 => fun _ _ _ => False
  | n + 1 => fun x1 x3 st => (((sI st 6) ≤ x3 → (∃ fu : Nat, wX0_digest_98  post  fu x1 0 st)) ∧ (¬ (sI st 6) ≤ x3 → (∃ fu : Nat, wX0_digest_43  post (wX0_digest_32  post  n) fu x1 x3 0 st)))
def wX0_digest_6  (post : Int64 → CS → Prop)  : Nat → Int64 → Int32 → CS → Prop
  | 0 => fun _ _ _ => False
  | n + 1 => fun x1 x3 st => ((4 ≤ x3 → (∃ fu : Nat, wX0_digest_32  post  fu x1 0 st)) ∧ (¬ 4 ≤ x3 → (wpX0_count (fun r_37 s_36 => (∀ x1_38 : Int64, x1_38 = ((31 * x1) + r_37.toInt64) → (∀ x3_39 : Int32, x3_39 = x3 + 1 → (wX0_digest_6  post  n x1_38 x3_39 s_36)))) st x3)))
def wpX0_digest  (post : Int64 → CS → Prop) (s0 : CS)  : Prop := (∃ fu : Nat, wX0_digest_6  post  fu 17 0 s0)
set_option maxHeartbeats 4000000 in
theorem kX0_digest_212 (hX : ∀ U, E U → EL U) {post : Int64 → CS → Prop} {k144 : Int64 → Int32 → CS → Prop} (F : Fx p s m args meth c cX0_digest 6 RX0 (some .long) D d E A) (hk144 : ∀ (x1 : Int64) (x3 : Int32) (st : CS) (H : Heap) (locs : List Loc) (ls : Array Slot), k144 x1 x3 st → Cx D (wX o ad d) A s st H locs → lv_has ls 6 [(0, .ref o), (1, .long x1), (3, .int x3)] → W p l e (headSpec (ws_ yX0_digest cX0_digest 6 (some .long)) rmX0_digest).room s m args below meth c H locs 0 0 (QL below D d E (wX o ad d) A args s 0 0 post) (F0 m 144 ls [])) : ∀ (x1 : Int64) (x3 : Int32) (st : CS) (H : Heap) (locs : List Loc) (ls : Array Slot), wX0_digest_212  post k144 x1 x3 st → Cx D (wX o ad d) A s st H locs → lv_has ls 6 [(0, .ref o), (1, .long x1), (3, .int x3)] → W p l e (headSpec (ws_ yX0_digest cX0_digest 6 (some .long)) rmX0_digest).room s m args below meth c H locs 0 0 (QL below D d E (wX o ad d) A args s 0 0 post) (F0 m 212 ls []) := by
  obtain ⟨hx, hb, hr, hml, hown, hts, hlk, hA, hK, hE⟩ := id F
  intro x1 x3 st H locs ls hw C hl
  unfold wX0_digest_212 at hw
  obtain ⟨x3_11, ex3_11⟩ : ∃ y : Int32, y = x3 + 1 := ⟨_, rfl⟩
  have hw := hw x3_11 ex3_11
  refine lv_iinc (v := x3_11) (lv' := [(3, .int x3_11), (0, .ref o), (1, .long x1)]) hx hb dX0_digest_212 hl (k := 2) rfl (by rw [ex3_11]; rfl) (by decide) rfl (fun ls hl => ?_)
  refine lv_goto (tgt := 144) hx hb dX0_digest_215 (by decide) ?_
  exact hk144 x1 x3_11 st _ _ _ hw C (lv_sub hl [1, 2, 0] rfl)
set_option maxHeartbeats 4000000 in
theorem kX0_digest_180 (hX : ∀ U, E U → EL U) {post : Int64 → CS → Prop} {k144 : Int64 → Int32 → CS → Prop} (F : Fx p s m args meth c cX0_digest 6 RX0 (some .long) D d E A) (hk144 : ∀ (x1 : Int64) (x3 : Int32) (st : CS) (H : Heap) (locs : List Loc) (ls : Array Slot), k144 x1 x3 st → Cx D (wX o ad d) A s st H locs → lv_has ls 6 [(0, .ref o), (1, .long x1), (3, .int x3)] → W p l e (headSpec (ws_ yX0_digest cX0_digest 6 (some .long)) rmX0_digest).room s m args below meth c H locs 0 0 (QL below D d E (wX o ad d) A args s 0 0 post) (F0 m 144 ls [])) : ∀ (fu : Nat) (x1 : Int64) (x3 : Int32) (x4 : Option Nat) (x5 : Int32) (st : CS) (H : Heap) (locs : List Loc) (ls : Array Slot), wX0_digest_180  post k144 fu x1 x3 x4 x5 st → Cx D (wX o ad d) A s st H locs → lv_has ls 6 [(0, .ref o), (1, .long x1), (3, .int x3), (4, va_rf x4), (5, .int x5)] → W p l e (headSpec (ws_ yX0_digest cX0_digest 6 (some .long)) rmX0_digest).room s m args below meth c H locs 0 0 (QL below D d E (wX o ad d) A args s 0 0 post) (F0 m 180 ls []) := by
  obtain ⟨hx, hb, hr, hml, hown, hts, hlk, hA, hK, hE⟩ := id F
  intro fu
  induction fu with
  | zero =>
    intro x1 x3 x4 x5 st H locs ls hw
    exact hw.elim
  | succ n ih =>
    have hk180 := ih
    intro x1 x3 x4 x5 st H locs ls hw C hl
    unfold wX0_digest_180 at hw
    refine lv_aloadQ hx hb dX0_digest_180 (lv_at hl 3 rfl) ?_
    refine lv_ifnQ (tgt := 212) hx hb dX0_digest_182 (by decide) (fun c_10 => ?_) (fun c_10 => ?_)
    · have hw := hw.1 c_10
      exact kX0_digest_212 hX F hk144 x1 x3 st _ _ _ hw C (lv_sub hl [0, 1, 2] rfl)
    · have hw := hw.2 c_10
      refine lv_iload hx hb dX0_digest_185 (lv_at hl 4 rfl) ?_
      refine lv_aloadQ hx hb dX0_digest_187 (lv_at hl 3 rfl) ?_
      obtain ⟨a_12, ha_12, h_13, hw⟩ := hw
      rw [ha_12]
      refine x0_alenS F C h_13 dX0_digest_189 ?_
      refine lv_icmp_ge (tgt := 212) hx hb dX0_digest_190 (by decide) (fun c_14 => ?_) (fun c_14 => ?_)
      · have hw := hw.1 c_14
        exact kX0_digest_212 hX F hk144 x1 x3 st _ _ _ hw C (lv_sub hl [0, 1, 2] rfl)
      · have hw := hw.2 c_14
        refine lv_ldc2 hx hb hown (hts _ q856) dX0_digest_193 ?_
        refine lv_lload_n hx hb dX0_digest_196 rfl (lv_at hl 1 rfl) ?_
        refine lv_lmul hx hb dX0_digest_197 ?_
        refine lv_aloadQ hx hb dX0_digest_198 (lv_at hl 3 rfl) ?_
        refine lv_iload hx hb dX0_digest_200 (lv_at hl 4 rfl) ?_
        obtain ⟨a_15, ha_15, h_16, h_17, hw⟩ := hw
        rw [ha_15]
        refine x0_ialdS F C h_16 h_17 dX0_digest_202 ?_
        refine lv_i2l (v := ((sE st a_15).2.2 x5.toNatClampNeg).toInt64) hx hb dX0_digest_203 rfl ?_
        refine lv_ladd hx hb dX0_digest_204 ?_
        refine lv_topl (fun x1_18 ex1_18 => ?_)
        have hw := hw x1_18 ex1_18
        refine lv_lstore_n (lv' := [(1, .long x1_18), (0, .ref o), (3, .int x3), (4, va_rf x4), (5, .int x5)]) hx hb dX0_digest_205 rfl hl (by decide) (by cases x4 <;> rfl) (fun ls hl => ?_)
        obtain ⟨x5_19, ex5_19⟩ : ∃ y : Int32, y = x5 + 1 := ⟨_, rfl⟩
        have hw := hw x5_19 ex5_19
        refine lv_iinc (v := x5_19) (lv' := [(5, .int x5_19), (1, .long x1_18), (0, .ref o), (3, .int x3), (4, va_rf x4)]) hx hb dX0_digest_206 hl (k := 4) rfl (by rw [ex5_19]; rfl) (by decide) (by cases x4 <;> rfl) (fun ls hl => ?_)
        refine lv_goto (tgt := 180) hx hb dX0_digest_209 (by decide) ?_
        exact hk180 x1_18 x3 x4 x5_19 st _ _ _ hw C (lv_sub hl [2, 1, 3, 4, 0] rfl)
set_option maxHeartbeats 4000000 in
theorem kX0_digest_174 (hX : ∀ U, E U → EL U) {post : Int64 → CS → Prop} {k144 : Int64 → Int32 → CS → Prop} (F : Fx p s m args meth c cX0_digest 6 RX0 (some .long) D d E A) (hk144 : ∀ (x1 : Int64) (x3 : Int32) (st : CS) (H : Heap) (locs : List Loc) (ls : Array Slot), k144 x1 x3 st → Cx D (wX o ad d) A s st H locs → lv_has ls 6 [(0, .ref o), (1, .long x1), (3, .int x3)] → W p l e (headSpec (ws_ yX0_digest cX0_digest 6 (some .long)) rmX0_digest).room s m args below meth c H locs 0 0 (QL below D d E (wX o ad d) A args s 0 0 post) (F0 m 144 ls [])) : ∀ (x3 : Int32) (x4 : Option Nat) (y0 : Int32) (y1 : Int64) (st : CS) (H : Heap) (locs : List Loc) (ls : Array Slot), wX0_digest_174  post k144 x3 x4 y0 y1 st → Cx D (wX o ad d) A s st H locs → lv_has ls 6 [(0, .ref o), (3, .int x3), (4, va_rf x4)] → W p l e (headSpec (ws_ yX0_digest cX0_digest 6 (some .long)) rmX0_digest).room s m args below meth c H locs 0 0 (QL below D d E (wX o ad d) A args s 0 0 post) (F0 m 174 ls [.int y0, .long y1]) := by
  obtain ⟨hx, hb, hr, hml, hown, hts, hlk, hA, hK, hE⟩ := id F
  intro x3 x4 y0 y1 st H locs ls hw C hl
  unfold wX0_digest_174 at hw
  refine lv_i2l (v := y0.toInt64) hx hb dX0_digest_174 rfl ?_
  refine lv_ladd hx hb dX0_digest_175 ?_
  refine lv_topl (fun x1_9 ex1_9 => ?_)
  have hw := hw x1_9 ex1_9
  refine lv_lstore_n (lv' := [(1, .long x1_9), (0, .ref o), (3, .int x3), (4, va_rf x4)]) hx hb dX0_digest_176 rfl hl (by decide) (by cases x4 <;> rfl) (fun ls hl => ?_)
  refine lv_iconst (v := 0) hx hb dX0_digest_177 (by decide) ?_
  refine lv_istore (lv' := [(5, .int 0), (1, .long x1_9), (0, .ref o), (3, .int x3), (4, va_rf x4)]) hx hb dX0_digest_178 hl (by decide) (by cases x4 <;> rfl) (fun ls hl => ?_)
  obtain ⟨fu, hw⟩ := hw
  exact kX0_digest_180 hX F hk144 fu x1_9 x3 x4 0 st _ _ _ hw C (lv_sub hl [2, 1, 3, 4, 0] rfl)
set_option maxHeartbeats 4000000 in
theorem kX0_digest_144 (hX : ∀ U, E U → EL U) {post : Int64 → CS → Prop}  (F : Fx p s m args meth c cX0_digest 6 RX0 (some .long) D d E A) : ∀ (fu : Nat) (x1 : Int64) (x3 : Int32) (st : CS) (H : Heap) (locs : List Loc) (ls : Array Slot), wX0_digest_144  post  fu x1 x3 st → Cx D (wX o ad d) A s st H locs → lv_has ls 6 [(0, .ref o), (1, .long x1), (3, .int x3)] → W p l e (headSpec (ws_ yX0_digest cX0_digest 6 (some .long)) rmX0_digest).room s m args below meth c H locs 0 0 (QL below D d E (wX o ad d) A args s 0 0 post) (F0 m 144 ls []) := by
  obtain ⟨hx, hb, hr, hml, hown, hts, hlk, hA, hK, hE⟩ := id F
  intro fu
  induction fu with
  | zero =>
    intro x1 x3 st H locs ls hw
    exact hw.elim
  | succ n ih =>
    have hk144 := ih
    intro x1 x3 st H locs ls hw C hl
    unfold wX0_digest_144 at hw
    refine lv_iload_n hx hb dX0_digest_144 rfl (lv_at hl 2 rfl) ?_
    refine lv_iconst (v := 4) hx hb dX0_digest_145 (by decide) ?_
    refine lv_icmp_ge (tgt := 218) hx hb dX0_digest_146 (by decide) (fun c_4 => ?_) (fun c_4 => ?_)
    · have hw := hw.1 c_4
      refine lv_lload_n hx hb dX0_digest_218 rfl (lv_at hl 1 rfl) ?_
      exact x_lret F C hw dX0_digest_219
    · have hw := hw.2 c_4
      refine lv_aload_n hx hb dX0_digest_149 rfl (lv_at hl 0 rfl) ?_
      refine x0_g40 F C dX0_digest_150 ?_
      refine lv_iload_n hx hb dX0_digest_153 rfl (lv_at hl 2 rfl) ?_
      obtain ⟨h_5, hw⟩ := hw
      refine x0_ldS F C h_5 dX0_digest_154 ?_
      refine lv_astoreQ (lv' := [(4, va_rf (sR st 40 x3.toNatClampNeg)), (0, .ref o), (1, .long x1), (3, .int x3)]) hx hb dX0_digest_155 hl (by decide) rfl (fun ls hl => ?_)
      refine lv_ldc2 hx hb hown (hts _ q856) dX0_digest_157 ?_
      refine lv_lload_n hx hb dX0_digest_160 rfl (lv_at hl 2 rfl) ?_
      refine lv_lmul hx hb dX0_digest_161 ?_
      refine lv_aloadQ hx hb dX0_digest_162 (lv_at hl 0 rfl) ?_
      refine lv_ifnnQ (tgt := 171) hx hb dX0_digest_164 (by decide) (fun c_6 => ?_) (fun c_6 => ?_)
      · have hw := hw.2 c_6
        refine lv_aloadQ hx hb dX0_digest_171 (lv_at hl 0 rfl) ?_
        obtain ⟨a_7, ha_7, h_8, hw⟩ := hw
        rw [ha_7]
        refine x0_alenS F C h_8 dX0_digest_173 ?_
        exact kX0_digest_174 hX F hk144 x3 (sR st 40 x3.toNatClampNeg) (nI (sE st a_7).2.1) (31 * x1) st _ _ _ hw C (lv_sub hl [1, 3, 0] rfl)
      · have hw := hw.1 c_6
        refine lv_iconst (v := (-1)) hx hb dX0_digest_167 (by decide) ?_
        refine lv_goto (tgt := 174) hx hb dX0_digest_168 (by decide) ?_
        exact kX0_digest_174 hX F hk144 x3 (sR st 40 x3.toNatClampNeg) (-1) (31 * x1) st _ _ _ hw C (lv_sub hl [1, 3, 0] rfl)
set_option maxHeartbeats 4000000 in
theorem kX0_digest_109 (hX : ∀ U, E U → EL U) {post : Int64 → CS → Prop} {k98 : Int64 → Int32 → CS → Prop} (F : Fx p s m args meth c cX0_digest 6 RX0 (some .long) D d E A) (hk98 : ∀ (x1 : Int64) (x3 : Int32) (st : CS) (H : Heap) (locs : List Loc) (ls : Array Slot), k98 x1 x3 st → Cx D (wX o ad d) A s st H locs → lv_has ls 6 [(0, .ref o), (1, .long x1), (3, .int x3)] → W p l e (headSpec (ws_ yX0_digest cX0_digest 6 (some .long)) rmX0_digest).room s m args below meth c H locs 0 0 (QL below D d E (wX o ad d) A args s 0 0 post) (F0 m 98 ls [])) : ∀ (fu : Nat) (x1 : Int64) (x3 : Int32) (x4 : Int32) (st : CS) (H : Heap) (locs : List Loc) (ls : Array Slot), wX0_digest_109  post k98 fu x1 x3 x4 st → Cx D (wX o ad d) A s st H locs → lv_has ls 6 [(0, .ref o), (1, .long x1), (3, .int x3), (4, .int x4)] → W p l e (headSpec (ws_ yX0_digest cX0_digest 6 (some .long)) rmX0_digest).room s m args below meth c H locs 0 0 (QL below D d E (wX o ad d) A args s 0 0 post) (F0 m 109 ls []) := by
  obtain ⟨hx, hb, hr, hml, hown, hts, hlk, hA, hK, hE⟩ := id F
  intro fu
  induction fu with
  | zero =>
    intro x1 x3 x4 st H locs ls hw
    exact hw.elim
  | succ n ih =>
    have hk109 := ih
    intro x1 x3 x4 st H locs ls hw C hl
    unfold wX0_digest_109 at hw
    refine lv_iload hx hb dX0_digest_109 (lv_at hl 3 rfl) ?_
    refine lv_iconst (v := 4) hx hb dX0_digest_111 (by decide) ?_
    refine lv_icmp_ge (tgt := 136) hx hb dX0_digest_112 (by decide) (fun c_20 => ?_) (fun c_20 => ?_)
    · have hw := hw.1 c_20
      obtain ⟨x3_21, ex3_21⟩ : ∃ y : Int32, y = x3 + 1 := ⟨_, rfl⟩
      have hw := hw x3_21 ex3_21
      refine lv_iinc (v := x3_21) (lv' := [(3, .int x3_21), (0, .ref o), (1, .long x1), (4, .int x4)]) hx hb dX0_digest_136 hl (k := 2) rfl (by rw [ex3_21]; rfl) (by decide) rfl (fun ls hl => ?_)
      refine lv_goto (tgt := 98) hx hb dX0_digest_139 (by decide) ?_
      exact hk98 x1 x3_21 st _ _ _ hw C (lv_sub hl [1, 2, 0] rfl)
    · have hw := hw.2 c_20
      refine lv_ldc2 hx hb hown (hts _ q856) dX0_digest_115 ?_
      refine lv_lload_n hx hb dX0_digest_118 rfl (lv_at hl 1 rfl) ?_
      refine lv_lmul hx hb dX0_digest_119 ?_
      refine lv_aload_n hx hb dX0_digest_120 rfl (lv_at hl 0 rfl) ?_
      refine lv_iload_n hx hb dX0_digest_121 rfl (lv_at hl 2 rfl) ?_
      refine lv_iload hx hb dX0_digest_122 (lv_at hl 3 rfl) ?_
      refine x_callI (rest := [.long (31 * x1)]) (ci := 0) (q := (RX0, TX0, 41)) F C (ctX0_lineOf hE hX hw) (cwV 2 hts (lw_V q340 q342 qs4 q70 q343) rfl rfl rfl (by decide +kernel) ⟨Nat.le_of_ble_eq_true rfl, Nat.le_of_ble_eq_true rfl⟩) rfl rfl rfl hl.1 rfl (Nat.le_of_ble_eq_true rfl) dX0_digest_124 ⟨Nat.zero_le _, Nat.zero_le _⟩ (fun r_23 s_22 H locs hw C => ?_)
      refine lv_i2l (v := r_23.toInt64) hx hb dX0_digest_127 rfl ?_
      refine lv_ladd hx hb dX0_digest_128 ?_
      refine lv_topl (fun x1_24 ex1_24 => ?_)
      have hw := hw x1_24 ex1_24
      refine lv_lstore_n (lv' := [(1, .long x1_24), (0, .ref o), (3, .int x3), (4, .int x4)]) hx hb dX0_digest_129 rfl hl (by decide) rfl (fun ls hl => ?_)
      obtain ⟨x4_25, ex4_25⟩ : ∃ y : Int32, y = x4 + 1 := ⟨_, rfl⟩
      have hw := hw x4_25 ex4_25
      refine lv_iinc (v := x4_25) (lv' := [(4, .int x4_25), (1, .long x1_24), (0, .ref o), (3, .int x3)]) hx hb dX0_digest_130 hl (k := 3) rfl (by rw [ex4_25]; rfl) (by decide) rfl (fun ls hl => ?_)
      refine lv_goto (tgt := 109) hx hb dX0_digest_133 (by decide) ?_
      exact hk109 x1_24 x3 x4_25 s_22 _ _ _ hw C (lv_sub hl [2, 1, 3, 0] rfl)
set_option maxHeartbeats 4000000 in
theorem kX0_digest_98 (hX : ∀ U, E U → EL U) {post : Int64 → CS → Prop}  (F : Fx p s m args meth c cX0_digest 6 RX0 (some .long) D d E A) : ∀ (fu : Nat) (x1 : Int64) (x3 : Int32) (st : CS) (H : Heap) (locs : List Loc) (ls : Array Slot), wX0_digest_98  post  fu x1 x3 st → Cx D (wX o ad d) A s st H locs → lv_has ls 6 [(0, .ref o), (1, .long x1), (3, .int x3)] → W p l e (headSpec (ws_ yX0_digest cX0_digest 6 (some .long)) rmX0_digest).room s m args below meth c H locs 0 0 (QL below D d E (wX o ad d) A args s 0 0 post) (F0 m 98 ls []) := by
  obtain ⟨hx, hb, hr, hml, hown, hts, hlk, hA, hK, hE⟩ := id F
  intro fu
  induction fu with
  | zero =>
    intro x1 x3 st H locs ls hw
    exact hw.elim
  | succ n ih =>
    have hk98 := ih
    intro x1 x3 st H locs ls hw C hl
    unfold wX0_digest_98 at hw
    refine lv_iload_n hx hb dX0_digest_98 rfl (lv_at hl 2 rfl) ?_
    refine lv_aload_n hx hb dX0_digest_99 rfl (lv_at hl 0 rfl) ?_
    refine x0_g11 F C dX0_digest_100 ?_
    refine lv_icmp_ge (tgt := 142) hx hb dX0_digest_103 (by decide) (fun c_3 => ?_) (fun c_3 => ?_)
    · have hw := hw.1 c_3
      refine lv_iconst (v := 0) hx hb dX0_digest_142 (by decide) ?_
      refine lv_istore_n (lv' := [(3, .int 0), (0, .ref o), (1, .long x1)]) hx hb dX0_digest_143 rfl hl (by decide) rfl (fun ls hl => ?_)
      obtain ⟨fu, hw⟩ := hw
      exact kX0_digest_144 hX F  fu x1 0 st _ _ _ hw C (lv_sub hl [1, 2, 0] rfl)
    · have hw := hw.2 c_3
      refine lv_iconst (v := 0) hx hb dX0_digest_106 (by decide) ?_
      refine lv_istore (lv' := [(4, .int 0), (0, .ref o), (1, .long x1), (3, .int x3)]) hx hb dX0_digest_107 hl (by decide) rfl (fun ls hl => ?_)
      obtain ⟨fu, hw⟩ := hw
      exact kX0_digest_109 hX F hk98 fu x1 x3 0 st _ _ _ hw C (lv_sub hl [1, 2, 3, 0] rfl)
set_option maxHeartbeats 4000000 in
theorem kX0_digest_43 (hX : ∀ U, E U → EL U) {post : Int64 → CS → Prop} {k32 : Int64 → Int32 → CS → Prop} (F : Fx p s m args meth c cX0_digest 6 RX0 (some .long) D d E A) (hk32 : ∀ (x1 : Int64) (x3 : Int32) (st : CS) (H : Heap) (locs : List Loc) (ls : Array Slot), k32 x1 x3 st → Cx D (wX o ad d) A s st H locs → lv_has ls 6 [(0, .ref o), (1, .long x1), (3, .int x3)] → W p l e (headSpec (ws_ yX0_digest cX0_digest 6 (some .long)) rmX0_digest).room s m args below meth c H locs 0 0 (QL below D d E (wX o ad d) A args s 0 0 post) (F0 m 32 ls [])) : ∀ (fu : Nat) (x1 : Int64) (x3 : Int32) (x4 : Int32) (st : CS) (H : Heap) (locs : List Loc) (ls : Array Slot), wX0_digest_43  post k32 fu x1 x3 x4 st → Cx D (wX o ad d) A s st H locs → lv_has ls 6 [(0, .ref o), (1, .long x1), (3, .int x3), (4, .int x4)] → W p l e (headSpec (ws_ yX0_digest cX0_digest 6 (some .long)) rmX0_digest).room s m args below meth c H locs 0 0 (QL below D d E (wX o ad d) A args s 0 0 post) (F0 m 43 ls []) := by
  obtain ⟨hx, hb, hr, hml, hown, hts, hlk, hA, hK, hE⟩ := id F
  intro fu
  induction fu with
  | zero =>
    intro x1 x3 x4 st H locs ls hw
    exact hw.elim
  | succ n ih =>
    have hk43 := ih
    intro x1 x3 x4 st H locs ls hw C hl
    unfold wX0_digest_43 at hw
    refine lv_iload hx hb dX0_digest_43 (lv_at hl 3 rfl) ?_
    refine lv_iconst (v := 5) hx hb dX0_digest_45 (by decide) ?_
    refine lv_icmp_ge (tgt := 70) hx hb dX0_digest_46 (by decide) (fun c_26 => ?_) (fun c_26 => ?_)
    · have hw := hw.1 c_26
      refine lv_ldc2 hx hb hown (hts _ q856) dX0_digest_70 ?_
      refine lv_lload_n hx hb dX0_digest_73 rfl (lv_at hl 1 rfl) ?_
      refine lv_lmul hx hb dX0_digest_74 ?_
      refine lv_aload_n hx hb dX0_digest_75 rfl (lv_at hl 0 rfl) ?_
      refine x0_g38 F C dX0_digest_76 ?_
      refine lv_iload_n hx hb dX0_digest_79 rfl (lv_at hl 2 rfl) ?_
      obtain ⟨h_27, hw⟩ := hw
      refine x0_ld38 F C h_27 dX0_digest_80 ?_
      refine lv_i2l (v := (sA st 38 x3.toNatClampNeg).toInt64) hx hb dX0_digest_81 rfl ?_
      refine lv_ladd hx hb dX0_digest_82 ?_
      refine lv_aload_n hx hb dX0_digest_83 rfl (lv_at hl 0 rfl) ?_
      refine lv_iload_n hx hb dX0_digest_84 rfl (lv_at hl 2 rfl) ?_
      refine x_callL (rest := [.long ((31 * x1) + ((sA st 38 x3.toNatClampNeg).toInt64))]) (ci := 0) (q := (RX0, TX0, 41)) F C (ctX0_paidOf hE hX hw) (cwV 1 hts (lw_V q711 q713 qs35 q70 q714) rfl rfl rfl (by decide +kernel) ⟨Nat.le_of_ble_eq_true rfl, Nat.le_of_ble_eq_true rfl⟩) rfl rfl rfl hl.1 rfl (Nat.le_of_ble_eq_true rfl) dX0_digest_85 ⟨Nat.zero_le _, Nat.zero_le _⟩ (fun r_29 s_28 H locs hw C => ?_)
      refine lv_lsub hx hb dX0_digest_88 ?_
      refine lv_topl (fun x1_30 ex1_30 => ?_)
      have hw := hw x1_30 ex1_30
      refine lv_lstore_n (lv' := [(1, .long x1_30), (0, .ref o), (3, .int x3), (4, .int x4)]) hx hb dX0_digest_89 rfl hl (by decide) rfl (fun ls hl => ?_)
      obtain ⟨x3_31, ex3_31⟩ : ∃ y : Int32, y = x3 + 1 := ⟨_, rfl⟩
      have hw := hw x3_31 ex3_31
      refine lv_iinc (v := x3_31) (lv' := [(3, .int x3_31), (1, .long x1_30), (0, .ref o), (4, .int x4)]) hx hb dX0_digest_90 hl (k := 2) rfl (by rw [ex3_31]; rfl) (by decide) rfl (fun ls hl => ?_)
      refine lv_goto (tgt := 32) hx hb dX0_digest_93 (by decide) ?_
      exact hk32 x1_30 x3_31 s_28 _ _ _ hw C (lv_sub hl [2, 1, 0] rfl)
    · have hw := hw.2 c_26
      refine lv_ldc2 hx hb hown (hts _ q856) dX0_digest_49 ?_
      refine lv_lload_n hx hb dX0_digest_52 rfl (lv_at hl 1 rfl) ?_
      refine lv_lmul hx hb dX0_digest_53 ?_
      refine lv_aload_n hx hb dX0_digest_54 rfl (lv_at hl 0 rfl) ?_
      refine lv_iload_n hx hb dX0_digest_55 rfl (lv_at hl 2 rfl) ?_
      refine lv_iload hx hb dX0_digest_56 (lv_at hl 3 rfl) ?_
      refine x_callI (rest := [.long (31 * x1)]) (ci := 0) (q := (RX0, TX0, 41)) F C (ctX0_told hE hX hw) (cwV 2 hts (lw_V q858 q248 q249 q70 q250) rfl rfl rfl (by decide +kernel) ⟨Nat.le_of_ble_eq_true rfl, Nat.le_of_ble_eq_true rfl⟩) rfl rfl rfl hl.1 rfl (Nat.le_of_ble_eq_true rfl) dX0_digest_58 ⟨Nat.zero_le _, Nat.zero_le _⟩ (fun r_33 s_32 H locs hw C => ?_)
      refine lv_i2l (v := r_33.toInt64) hx hb dX0_digest_61 rfl ?_
      refine lv_ladd hx hb dX0_digest_62 ?_
      refine lv_topl (fun x1_34 ex1_34 => ?_)
      have hw := hw x1_34 ex1_34
      refine lv_lstore_n (lv' := [(1, .long x1_34), (0, .ref o), (3, .int x3), (4, .int x4)]) hx hb dX0_digest_63 rfl hl (by decide) rfl (fun ls hl => ?_)
      obtain ⟨x4_35, ex4_35⟩ : ∃ y : Int32, y = x4 + 1 := ⟨_, rfl⟩
      have hw := hw x4_35 ex4_35
      refine lv_iinc (v := x4_35) (lv' := [(4, .int x4_35), (1, .long x1_34), (0, .ref o), (3, .int x3)]) hx hb dX0_digest_64 hl (k := 3) rfl (by rw [ex4_35]; rfl) (by decide) rfl (fun ls hl => ?_)
      refine lv_goto (tgt := 43) hx hb dX0_digest_67 (by decide) ?_
      exact hk43 x1_34 x3 x4_35 s_32 _ _ _ hw C (lv_sub hl [2, 1, 3, 0] rfl)
set_option maxHeartbeats 4000000 in
theorem kX0_digest_32 (hX : ∀ U, E U → EL U) {post : Int64 → CS → Prop}  (F : Fx p s m args meth c cX0_digest 6 RX0 (some .long) D d E A) : ∀ (fu : Nat) (x1 : Int64) (x3 : Int32) (st : CS) (H : Heap) (locs : List Loc) (ls : Array Slot), wX0_digest_32  post  fu x1 x3 st → Cx D (wX o ad d) A s st H locs → lv_has ls 6 [(0, .ref o), (1, .long x1), (3, .int x3)] → W p l e (headSpec (ws_ yX0_digest cX0_digest 6 (some .long)) rmX0_digest).room s m args below meth c H locs 0 0 (QL below D d E (wX o ad d) A args s 0 0 post) (F0 m 32 ls []) := by
  obtain ⟨hx, hb, hr, hml, hown, hts, hlk, hA, hK, hE⟩ := id F
  intro fu
  induction fu with
  | zero =>
    intro x1 x3 st H locs ls hw
    exact hw.elim
  | succ n ih =>
    have hk32 := ih
    intro x1 x3 st H locs ls hw C hl
    unfold wX0_digest_32 at hw
    refine lv_iload_n hx hb dX0_digest_32 rfl (lv_at hl 2 rfl) ?_
    refine lv_aload_n hx hb dX0_digest_33 rfl (lv_at hl 0 rfl) ?_
    refine x0_g6 F C dX0_digest_34 ?_
    refine lv_icmp_ge (tgt := 96) hx hb dX0_digest_37 (by decide) (fun c_2 => ?_) (fun c_2 => ?_)
    · have hw := hw.1 c_2
      refine lv_iconst (v := 0) hx hb dX0_digest_96 (by decide) ?_
      refine lv_istore_n (lv' := [(3, .int 0), (0, .ref o), (1, .long x1)]) hx hb dX0_digest_97 rfl hl (by decide) rfl (fun ls hl => ?_)
      obtain ⟨fu, hw⟩ := hw
      exact kX0_digest_98 hX F  fu x1 0 st _ _ _ hw C (lv_sub hl [1, 2, 0] rfl)
    · have hw := hw.2 c_2
      refine lv_iconst (v := 0) hx hb dX0_digest_40 (by decide) ?_
      refine lv_istore (lv' := [(4, .int 0), (0, .ref o), (1, .long x1), (3, .int x3)]) hx hb dX0_digest_41 hl (by decide) rfl (fun ls hl => ?_)
      obtain ⟨fu, hw⟩ := hw
      exact kX0_digest_43 hX F hk32 fu x1 x3 0 st _ _ _ hw C (lv_sub hl [1, 2, 3, 0] rfl)
set_option maxHeartbeats 4000000 in
theorem kX0_digest_6 (hX : ∀ U, E U → EL U) {post : Int64 → CS → Prop}  (F : Fx p s m args meth c cX0_digest 6 RX0 (some .long) D d E A) : ∀ (fu : Nat) (x1 : Int64) (x3 : Int32) (st : CS) (H : Heap) (locs : List Loc) (ls : Array Slot), wX0_digest_6  post  fu x1 x3 st → Cx D (wX o ad d) A s st H locs → lv_has ls 6 [(0, .ref o), (1, .long x1), (3, .int x3)] → W p l e (headSpec (ws_ yX0_digest cX0_digest 6 (some .long)) rmX0_digest).room s m args below meth c H locs 0 0 (QL below D d E (wX o ad d) A args s 0 0 post) (F0 m 6 ls []) := by
  obtain ⟨hx, hb, hr, hml, hown, hts, hlk, hA, hK, hE⟩ := id F
  intro fu
  induction fu with
  | zero =>
    intro x1 x3 st H locs ls hw
    exact hw.elim
  | succ n ih =>
    have hk6 := ih
    intro x1 x3 st H locs ls hw C hl
    unfold wX0_digest_6 at hw
    refine lv_iload_n hx hb dX0_digest_6 rfl (lv_at hl 2 rfl) ?_
    refine lv_iconst (v := 4) hx hb dX0_digest_7 (by decide) ?_
    refine lv_icmp_ge (tgt := 30) hx hb dX0_digest_8 (by decide) (fun c_1 => ?_) (fun c_1 => ?_)
    · have hw := hw.1 c_1
      refine lv_iconst (v := 0) hx hb dX0_digest_30 (by decide) ?_
      refine lv_istore_n (lv' := [(3, .int 0), (0, .ref o), (1, .long x1)]) hx hb dX0_digest_31 rfl hl (by decide) rfl (fun ls hl => ?_)
      obtain ⟨fu, hw⟩ := hw
      exact kX0_digest_32 hX F  fu x1 0 st _ _ _ hw C (lv_sub hl [1, 2, 0] rfl)
    · have hw := hw.2 c_1
      refine lv_ldc2 hx hb hown (hts _ q856) dX0_digest_11 ?_
      refine lv_lload_n hx hb dX0_digest_14 rfl (lv_at hl 1 rfl) ?_
      refine lv_lmul hx hb dX0_digest_15 ?_
      refine lv_aload_n hx hb dX0_digest_16 rfl (lv_at hl 0 rfl) ?_
      refine lv_iload_n hx hb dX0_digest_17 rfl (lv_at hl 2 rfl) ?_
      refine x_callI (rest := [.long (31 * x1)]) (ci := 0) (q := (RX0, TX0, 41)) F C (ctX0_count hE hX hw) (cwV 1 hts (lw_V q857 q840 q841 q70 q842) rfl rfl rfl (by decide +kernel) ⟨Nat.le_of_ble_eq_true rfl, Nat.le_of_ble_eq_true rfl⟩) rfl rfl rfl hl.1 rfl (Nat.le_of_ble_eq_true rfl) dX0_digest_18 ⟨Nat.zero_le _, Nat.zero_le _⟩ (fun r_37 s_36 H locs hw C => ?_)
      refine lv_i2l (v := r_37.toInt64) hx hb dX0_digest_21 rfl ?_
      refine lv_ladd hx hb dX0_digest_22 ?_
      refine lv_topl (fun x1_38 ex1_38 => ?_)
      have hw := hw x1_38 ex1_38
      refine lv_lstore_n (lv' := [(1, .long x1_38), (0, .ref o), (3, .int x3)]) hx hb dX0_digest_23 rfl hl (by decide) rfl (fun ls hl => ?_)
      obtain ⟨x3_39, ex3_39⟩ : ∃ y : Int32, y = x3 + 1 := ⟨_, rfl⟩
      have hw := hw x3_39 ex3_39
      refine lv_iinc (v := x3_39) (lv' := [(3, .int x3_39), (1, .long x1_38), (0, .ref o)]) hx hb dX0_digest_24 hl (k := 2) rfl (by rw [ex3_39]; rfl) (by decide) rfl (fun ls hl => ?_)
      refine lv_goto (tgt := 6) hx hb dX0_digest_27 (by decide) ?_
      exact hk6 x1_38 x3_39 s_36 _ _ _ hw C (lv_sub hl [2, 1, 0] rfl)
theorem ctX0_digest (hE : Em E) (hX : ∀ U, E U → EL U) {post : Int64 → CS → Prop} {s0 : CS}  (hw : wpX0_digest  post s0 ) : CtL l yX0_digest (ws_ yX0_digest cX0_digest 6 (some .long)) rmX0_digest D d E (wX o ad d) 0 0 [.ref o] s0 post := by
  refine CtL.of hE (by decide) rfl (Nat.le_of_ble_eq_true rfl) ?_
  intro p e s m below meth c A ls F C hl
  have hl : lv_has ls 6 [(0, .ref o)] := hl
  unfold wpX0_digest at hw
  obtain ⟨hx, hb, hr, hml, hown, hts, hlk, hA, hK, -⟩ := id F
  refine lv_ldc2 hx hb hown (hts _ q855) dX0_digest_0 ?_
  refine lv_lstore_n (lv' := [(1, .long 17), (0, .ref o)]) hx hb dX0_digest_3 rfl hl (by decide) rfl (fun ls hl => ?_)
  refine lv_iconst (v := 0) hx hb dX0_digest_4 (by decide) ?_
  refine lv_istore_n (lv' := [(3, .int 0), (1, .long 17), (0, .ref o)]) hx hb dX0_digest_5 rfl hl (by decide) rfl (fun ls hl => ?_)
  obtain ⟨fu, hw⟩ := hw
  exact kX0_digest_6 hX F  fu 17 0 s0 _ _ _ hw C (lv_sub hl [2, 1, 0] rfl)
end
