section
variable {p : Program} {l : Launch} {e : Env} {s : State} {m : MethodId} {args : Array Value} {below : List Frame} {meth : Method} {c : Code} {D : va_G} {d : Nat → ClassId} {E : State → Prop} {A : Nat → Prop} {wf : CS → va_W} {o : Nat} {ad : Nat → Nat}
set_option maxRecDepth 100000
abbrev rmX1_in : Room := { frames := 0, cells := 0, slots := 0, locals := 0 }
def wX1_in_14  (post : Int32 → CS → Prop)   (st : CS) : Prop := (post 0 st)
def wpX1_in  (post : Int32 → CS → Prop) (s0 : CS) (p0 : Int32) (p1 : Int32) (p2 : Int32) : Prop := ((p0 < p1 → (wX1_in_14  post  s0)) ∧ (¬ p0 < p1 → ((p2 < p0 → (wX1_in_14  post  s0)) ∧ (¬ p2 < p0 → (post 1 s0)))))
set_option maxHeartbeats 4000000 in
theorem kX1_in_14  {post : Int32 → CS → Prop}  (F : Fx p s m args meth c cX1_in 3 RX1 (some .boolean) D d E A) : ∀  (st : CS) (H : Heap) (locs : List Loc) (ls : Array Slot), wX1_in_14  post  st → Cx D wf A s st H locs → lv_has ls 3 [] → W p l e (headSpec (ws_ yX1_in cX1_in 3 (some .boolean)) rmX1_in).room s m args below meth c H locs 0 0 (QI below D d E wf A args s 0 0 post) (F0 m 14 ls []) := by
  obtain ⟨hx, hb, hr, hml, hown, hts, hlk, hA, hK, hE⟩ := id F
  intro st H locs ls hw C hl
  unfold wX1_in_14 at hw
  refine lv_iconst (v := 0) hx hb dX1_in_14 (by decide) ?_
  exact x_zret F C zb_0 hw dX1_in_15
theorem ctX1_in (hE : Em E)  {post : Int32 → CS → Prop} {s0 : CS} {p0 p1 p2 : Int32} (hw : wpX1_in  post s0 p0 p1 p2) : CtI l yX1_in (ws_ yX1_in cX1_in 3 (some .boolean)) rmX1_in D d E wf 0 0 [.int p0, .int p1, .int p2] s0 post := by
  refine CtI.of hE (by decide) rfl (Nat.le_of_ble_eq_true rfl) ?_
  intro p e s m below meth c A ls F C hl
  have hl : lv_has ls 3 [(0, .int p0), (1, .int p1), (2, .int p2)] := hl
  unfold wpX1_in at hw
  obtain ⟨hx, hb, hr, hml, hown, hts, hlk, hA, hK, -⟩ := id F
  refine lv_iload_n hx hb dX1_in_0 rfl (lv_at hl 0 rfl) ?_
  refine lv_iload_n hx hb dX1_in_1 rfl (lv_at hl 1 rfl) ?_
  refine lv_icmp_lt (tgt := 14) hx hb dX1_in_2 (by decide) (fun c_1 => ?_) (fun c_1 => ?_)
  · have hw := hw.1 c_1
    exact kX1_in_14  F  s0 _ _ _ hw C (lv_sub hl [] rfl)
  · have hw := hw.2 c_1
    refine lv_iload_n hx hb dX1_in_5 rfl (lv_at hl 0 rfl) ?_
    refine lv_iload_n hx hb dX1_in_6 rfl (lv_at hl 2 rfl) ?_
    refine lv_icmp_gt (tgt := 14) hx hb dX1_in_7 (by decide) (fun c_2 => ?_) (fun c_2 => ?_)
    · have hw := hw.1 c_2
      exact kX1_in_14  F  s0 _ _ _ hw C (lv_sub hl [] rfl)
    · have hw := hw.2 c_2
      refine lv_iconst (v := 1) hx hb dX1_in_10 (by decide) ?_
      refine lv_goto (tgt := 15) hx hb dX1_in_11 (by decide) ?_
      exact x_zret F C zb_1 hw dX1_in_15

abbrev rmX1_isDay : Room := { frames := 1, cells := 0, slots := 0, locals := 22 }
def wpX1_isDay  (post : Int32 → CS → Prop) (s0 : CS) (p0 : Int32) : Prop := (wpX1_in (fun r_2 s_1 => (zb r_2 ∧ post r_2 s_1)) s0 p0 1 100000)
theorem ctX1_isDay (hE : Em E)  {post : Int32 → CS → Prop} {s0 : CS} {p0 : Int32} (hw : wpX1_isDay  post s0 p0) : CtI l yX1_isDay (ws_ yX1_isDay cX1_isDay 1 (some .boolean)) rmX1_isDay D d E wf 0 0 [.int p0] s0 post := by
  refine CtI.of hE (by decide) rfl (Nat.le_of_ble_eq_true rfl) ?_
  intro p e s m below meth c A ls F C hl
  have hl : lv_has ls 1 [(0, .int p0)] := hl
  unfold wpX1_isDay at hw
  obtain ⟨hx, hb, hr, hml, hown, hts, hlk, hA, hK, -⟩ := id F
  refine lv_iload_n hx hb dX1_isDay_0 rfl (lv_at hl 0 rfl) ?_
  refine lv_iconst (v := 1) hx hb dX1_isDay_1 (by decide) ?_
  refine lv_ldc hx hb hown (hts _ q1041) dX1_isDay_2 ?_
  refine x_callSI (rest := []) F C (ctX1_in hE hw) (va_cwS 3 hts (lw_S q1035 q1036 q71 q1037) rfl rfl rfl (by decide +kernel) ⟨Nat.le_of_ble_eq_true rfl, Nat.le_of_ble_eq_true rfl⟩) rfl hl.1 rfl (Nat.le_of_ble_eq_true rfl) dX1_isDay_4 ⟨Nat.zero_le _, Nat.zero_le _⟩ (fun r_2 s_1 H locs hw C => ?_)
  exact x_zret F C hw.1 hw.2 dX1_isDay_7

abbrev rmX1_person : Room := { frames := 2, cells := 0, slots := 0, locals := 42 }
def wX1_person_34  (post : Int32 → CS → Prop)  (x1 : Int32) (x2 : Int32) (x3 : Int32) (st : CS) : Prop := (((sI st 2) = 24 → (post (-2) st)) ∧ (¬ (sI st 2) = 24 → (vp_in (sI st 2) 24 ∧ ∀ s_10 : CS, s_10 = uA st 3 (sI st 2).toNatClampNeg x1 → (vp_in (sI s_10 2) 24 ∧ ∀ s_12 : CS, s_12 = uA s_10 4 (sI s_10 2).toNatClampNeg x2 → (vp_in (sI s_12 2) 24 ∧ ∀ s_14 : CS, s_14 = uA s_12 5 (sI s_12 2).toNatClampNeg x3 → (∀ s_15 : CS, s_15 = uI s_14 2 ((sI s_14 2) + 1) → (post ((sI s_15 2) - 1) s_15)))))))
def wpX1_person  (post : Int32 → CS → Prop) (s0 : CS) (p0 : Int32) (p1 : Int32) (p2 : Int32) : Prop := (wpX1_in (fun r_2 s_1 => ((r_2 = 0 → (post (-1) s_1)) ∧ (¬ r_2 = 0 → (wpX1_isDay (fun r_5 s_4 => ((r_5 = 0 → (post (-1) s_4)) ∧ (¬ r_5 = 0 → ((p2 = (-9) → (wX1_person_34  post  p0 p1 p2 s_4)) ∧ (¬ p2 = (-9) → (wpX1_in (fun r_17 s_16 => ((r_17 = 0 → (post (-1) s_16)) ∧ (¬ r_17 = 0 → (wX1_person_34  post  p0 p1 p2 s_16)))) s_4 p2 p1 100000)))))) s_1 p1)))) s0 p0 0 3)
set_option maxHeartbeats 4000000 in
theorem kX1_person_34  {post : Int32 → CS → Prop}  (F : Fx p s m args meth c cX1_person 4 RX1 (some .int) D d E A) : ∀ (x1 : Int32) (x2 : Int32) (x3 : Int32) (st : CS) (H : Heap) (locs : List Loc) (ls : Array Slot), wX1_person_34  post  x1 x2 x3 st → Cx D (wM o ad d) A s st H locs → lv_has ls 4 [(0, .ref o), (1, .int x1), (2, .int x2), (3, .int x3)] → W p l e (headSpec (ws_ yX1_person cX1_person 4 (some .int)) rmX1_person).room s m args below meth c H locs 0 0 (QI below D d E (wM o ad d) A args s 0 0 post) (F0 m 34 ls []) := by
  obtain ⟨hx, hb, hr, hml, hown, hts, hlk, hA, hK, hE⟩ := id F
  intro x1 x2 x3 st H locs ls hw C hl
  unfold wX1_person_34 at hw
  refine lv_aload_n hx hb dX1_person_34 rfl (lv_at hl 0 rfl) ?_
  refine x1_g2 F C dX1_person_35 ?_
  refine lv_bipush (v := 24) hx hb dX1_person_38 (by decide) ?_
  refine lv_icmp_ne (tgt := 46) hx hb dX1_person_40 (by decide) (fun c_8 => ?_) (fun c_8 => ?_)
  · have hw := hw.2 c_8
    refine lv_aload_n hx hb dX1_person_46 rfl (lv_at hl 0 rfl) ?_
    refine x1_g3 F C dX1_person_47 ?_
    refine lv_aload_n hx hb dX1_person_50 rfl (lv_at hl 0 rfl) ?_
    refine x1_g2 F C dX1_person_51 ?_
    refine lv_iload_n hx hb dX1_person_54 rfl (lv_at hl 1 rfl) ?_
    obtain ⟨h_9, hw⟩ := hw
    refine x1_st3 F C h_9 dX1_person_55 (fun H locs s_10 es_10 C => ?_)
    have hw := hw s_10 es_10
    refine lv_aload_n hx hb dX1_person_56 rfl (lv_at hl 0 rfl) ?_
    refine x1_g4 F C dX1_person_57 ?_
    refine lv_aload_n hx hb dX1_person_60 rfl (lv_at hl 0 rfl) ?_
    refine x1_g2 F C dX1_person_61 ?_
    refine lv_iload_n hx hb dX1_person_64 rfl (lv_at hl 2 rfl) ?_
    obtain ⟨h_11, hw⟩ := hw
    refine x1_st4 F C h_11 dX1_person_65 (fun H locs s_12 es_12 C => ?_)
    have hw := hw s_12 es_12
    refine lv_aload_n hx hb dX1_person_66 rfl (lv_at hl 0 rfl) ?_
    refine x1_g5 F C dX1_person_67 ?_
    refine lv_aload_n hx hb dX1_person_70 rfl (lv_at hl 0 rfl) ?_
    refine x1_g2 F C dX1_person_71 ?_
    refine lv_iload_n hx hb dX1_person_74 rfl (lv_at hl 3 rfl) ?_
    obtain ⟨h_13, hw⟩ := hw
    refine x1_st5 F C h_13 dX1_person_75 (fun H locs s_14 es_14 C => ?_)
    have hw := hw s_14 es_14
    refine lv_aload_n hx hb dX1_person_76 rfl (lv_at hl 0 rfl) ?_
    refine lv_dup hx hb dX1_person_77 rfl ?_
    refine x1_g2 F C dX1_person_78 ?_
    refine lv_iconst (v := 1) hx hb dX1_person_81 (by decide) ?_
    refine lv_iadd hx hb dX1_person_82 ?_
    refine x1_p2 F C dX1_person_83 (fun H locs s_15 es_15 C => ?_)
    have hw := hw s_15 es_15
    refine lv_aload_n hx hb dX1_person_86 rfl (lv_at hl 0 rfl) ?_
    refine x1_g2 F C dX1_person_87 ?_
    refine lv_iconst (v := 1) hx hb dX1_person_90 (by decide) ?_
    refine lv_isub hx hb dX1_person_91 ?_
    exact x_iret F C hw dX1_person_92
  · have hw := hw.1 c_8
    refine lv_bipush (v := (-2)) hx hb dX1_person_43 (by decide) ?_
    exact x_iret F C hw dX1_person_45
theorem ctX1_person (hE : Em E)  {post : Int32 → CS → Prop} {s0 : CS} {p0 p1 p2 : Int32} (hw : wpX1_person  post s0 p0 p1 p2) : CtI l yX1_person (ws_ yX1_person cX1_person 4 (some .int)) rmX1_person D d E (wM o ad d) 0 0 [.ref o, .int p0, .int p1, .int p2] s0 post := by
  refine CtI.of hE (by decide) rfl (Nat.le_of_ble_eq_true rfl) ?_
  intro p e s m below meth c A ls F C hl
  have hl : lv_has ls 4 [(0, .ref o), (1, .int p0), (2, .int p1), (3, .int p2)] := hl
  unfold wpX1_person at hw
  obtain ⟨hx, hb, hr, hml, hown, hts, hlk, hA, hK, -⟩ := id F
  refine lv_iload_n hx hb dX1_person_0 rfl (lv_at hl 1 rfl) ?_
  refine lv_iconst (v := 0) hx hb dX1_person_1 (by decide) ?_
  refine lv_iconst (v := 3) hx hb dX1_person_2 (by decide) ?_
  refine x_callSI (rest := []) F C (ctX1_in hE hw) (va_cwS 3 hts (lw_S q1035 q1036 q71 q1037) rfl rfl rfl (by decide +kernel) ⟨Nat.le_of_ble_eq_true rfl, Nat.le_of_ble_eq_true rfl⟩) rfl hl.1 rfl (Nat.le_of_ble_eq_true rfl) dX1_person_3 ⟨Nat.zero_le _, Nat.zero_le _⟩ (fun r_2 s_1 H locs hw C => ?_)
  refine lv_if_eq (tgt := 32) hx hb dX1_person_6 (by decide) (fun c_3 => ?_) (fun c_3 => ?_)
  · have hw := hw.1 c_3
    refine lv_iconst (v := (-1)) hx hb dX1_person_32 (by decide) ?_
    exact x_iret F C hw dX1_person_33
  · have hw := hw.2 c_3
    refine lv_iload_n hx hb dX1_person_9 rfl (lv_at hl 2 rfl) ?_
    refine x_callSI (rest := []) F C (ctX1_isDay hE hw) (va_cwS 1 hts (lw_S q1038 q1039 q71 q1040) rfl rfl rfl (by decide +kernel) ⟨Nat.le_of_ble_eq_true rfl, Nat.le_of_ble_eq_true rfl⟩) rfl hl.1 rfl (Nat.le_of_ble_eq_true rfl) dX1_person_10 ⟨Nat.zero_le _, Nat.zero_le _⟩ (fun r_5 s_4 H locs hw C => ?_)
    refine lv_if_eq (tgt := 32) hx hb dX1_person_13 (by decide) (fun c_6 => ?_) (fun c_6 => ?_)
    · have hw := hw.1 c_6
      refine lv_iconst (v := (-1)) hx hb dX1_person_32 (by decide) ?_
      exact x_iret F C hw dX1_person_33
    · have hw := hw.2 c_6
      refine lv_iload_n hx hb dX1_person_16 rfl (lv_at hl 3 rfl) ?_
      refine lv_bipush (v := (-9)) hx hb dX1_person_17 (by decide) ?_
      refine lv_icmp_eq (tgt := 34) hx hb dX1_person_19 (by decide) (fun c_7 => ?_) (fun c_7 => ?_)
      · have hw := hw.1 c_7
        exact kX1_person_34  F  p0 p1 p2 s_4 _ _ _ hw C hl
      · have hw := hw.2 c_7
        refine lv_iload_n hx hb dX1_person_22 rfl (lv_at hl 3 rfl) ?_
        refine lv_iload_n hx hb dX1_person_23 rfl (lv_at hl 2 rfl) ?_
        refine lv_ldc hx hb hown (hts _ q1041) dX1_person_24 ?_
        refine x_callSI (rest := []) F C (ctX1_in hE hw) (va_cwS 3 hts (lw_S q1035 q1036 q71 q1037) rfl rfl rfl (by decide +kernel) ⟨Nat.le_of_ble_eq_true rfl, Nat.le_of_ble_eq_true rfl⟩) rfl hl.1 rfl (Nat.le_of_ble_eq_true rfl) dX1_person_26 ⟨Nat.zero_le _, Nat.zero_le _⟩ (fun r_17 s_16 H locs hw C => ?_)
        refine lv_if_ne (tgt := 34) hx hb dX1_person_29 (by decide) (fun c_18 => ?_) (fun c_18 => ?_)
        · have hw := hw.2 c_18
          exact kX1_person_34  F  p0 p1 p2 s_16 _ _ _ hw C hl
        · have hw := hw.1 c_18
          refine lv_iconst (v := (-1)) hx hb dX1_person_32 (by decide) ?_
          exact x_iret F C hw dX1_person_33

abbrev rmX1_isPerson : Room := { frames := 1, cells := 0, slots := 0, locals := 22 }
def wpX1_isPerson  (post : Int32 → CS → Prop) (s0 : CS) (p0 : Int32) : Prop := (wpX1_in (fun r_2 s_1 => (zb r_2 ∧ post r_2 s_1)) s0 p0 0 ((sI s0 2) - 1))
theorem ctX1_isPerson (hE : Em E)  {post : Int32 → CS → Prop} {s0 : CS} {p0 : Int32} (hw : wpX1_isPerson  post s0 p0) : CtI l yX1_isPerson (ws_ yX1_isPerson cX1_isPerson 2 (some .boolean)) rmX1_isPerson D d E (wM o ad d) 0 0 [.ref o, .int p0] s0 post := by
  refine CtI.of hE (by decide) rfl (Nat.le_of_ble_eq_true rfl) ?_
  intro p e s m below meth c A ls F C hl
  have hl : lv_has ls 2 [(0, .ref o), (1, .int p0)] := hl
  unfold wpX1_isPerson at hw
  obtain ⟨hx, hb, hr, hml, hown, hts, hlk, hA, hK, -⟩ := id F
  refine lv_iload_n hx hb dX1_isPerson_0 rfl (lv_at hl 1 rfl) ?_
  refine lv_iconst (v := 0) hx hb dX1_isPerson_1 (by decide) ?_
  refine lv_aload_n hx hb dX1_isPerson_2 rfl (lv_at hl 0 rfl) ?_
  refine x1_g2 F C dX1_isPerson_3 ?_
  refine lv_iconst (v := 1) hx hb dX1_isPerson_6 (by decide) ?_
  refine lv_isub hx hb dX1_isPerson_7 ?_
  refine x_callSI (rest := []) F C (ctX1_in hE hw) (va_cwS 3 hts (lw_S q1035 q1036 q71 q1037) rfl rfl rfl (by decide +kernel) ⟨Nat.le_of_ble_eq_true rfl, Nat.le_of_ble_eq_true rfl⟩) rfl hl.1 rfl (Nat.le_of_ble_eq_true rfl) dX1_isPerson_8 ⟨Nat.zero_le _, Nat.zero_le _⟩ (fun r_2 s_1 H locs hw C => ?_)
  exact x_zret F C hw.1 hw.2 dX1_isPerson_11

abbrev rmX1_linesOf : Room := { frames := 0, cells := 0, slots := 0, locals := 0 }
def wX1_linesOf_55  (post : Int32 → CS → Prop) (k5 : Int32 → Int32 → Int32 → Int32 → CS → Prop) (x1 : Int32) (x2 : Int32) (x4 : Int32) (y0 : Int32) (y1 : Int32) (st : CS) : Prop := (∀ x3_4 : Int32, x3_4 = (y1 + y0) → (∀ x4_5 : Int32, x4_5 = x4 + 1 → (k5 x1 x2 x3_4 x4_5 st)))
def wX1_linesOf_54  (post : Int32 → CS → Prop) (k5 : Int32 → Int32 → Int32 → Int32 → CS → Prop) (x1 : Int32) (x2 : Int32) (x4 : Int32) (y0 : Int32) (st : CS) : Prop := (wX1_linesOf_55  post k5 x1 x2 x4 0 y0 st)
def wX1_linesOf_46  (post : Int32 → CS → Prop) (k5 : Int32 → Int32 → Int32 → Int32 → CS → Prop) (x1 : Int32) (x2 : Int32) (x4 : Int32) (y0 : Int32) (y1 : Int32) (st : CS) : Prop := ((y0 = x1 → (wX1_linesOf_55  post k5 x1 x2 x4 1 y1 st)) ∧ (¬ y0 = x1 → (wX1_linesOf_54  post k5 x1 x2 x4 y1 st)))
def wX1_linesOf_5  (post : Int32 → CS → Prop)  : Nat → Int32 → Int32 → Int32 → Int32 → CS → Prop
  | 0 => fun _ _ _ _ _ => False
  | n + 1 => fun x1 x2 x3 x4 st => (((sI st 6) ≤ x4 → (post x3 st)) ∧ (¬ (sI st 6) ≤ x4 → (vp_in x4 40 ∧ (((sA st 13 x4.toNatClampNeg) = 0 → ((x2 = 0 → (vp_in x4 40 ∧ (wX1_linesOf_46  post (wX1_linesOf_5  post  n) x1 x2 x4 (sA st 8 x4.toNatClampNeg) x3 st))) ∧ (¬ x2 = 0 → (vp_in x4 40 ∧ (wX1_linesOf_46  post (wX1_linesOf_5  post  n) x1 x2 x4 (sA st 9 x4.toNatClampNeg) x3 st))))) ∧ (¬ (sA st 13 x4.toNatClampNeg) = 0 → (wX1_linesOf_54  post (wX1_linesOf_5  post  n) x1 x2 x4 x3 st))))))
def wpX1_linesOf  (post : Int32 → CS → Prop) (s0 : CS) (p0 : Int32) (p1 : Int32) : Prop := (∃ fu : Nat, wX1_linesOf_5  post  fu p0 p1 0 0 s0)
set_option maxHeartbeats 4000000 in
theorem kX1_linesOf_55  {post : Int32 → CS → Prop} {k5 : Int32 → Int32 → Int32 → Int32 → CS → Prop} (F : Fx p s m args meth c cX1_linesOf 5 RX1 (some .int) D d E A) (hk5 : ∀ (x1 : Int32) (x2 : Int32) (x3 : Int32) (x4 : Int32) (st : CS) (H : Heap) (locs : List Loc) (ls : Array Slot), k5 x1 x2 x3 x4 st → Cx D (wM o ad d) A s st H locs → lv_has ls 5 [(0, .ref o), (1, .int x1), (2, .int x2), (3, .int x3), (4, .int x4)] → W p l e (headSpec (ws_ yX1_linesOf cX1_linesOf 5 (some .int)) rmX1_linesOf).room s m args below meth c H locs 0 0 (QI below D d E (wM o ad d) A args s 0 0 post) (F0 m 5 ls [])) : ∀ (x1 : Int32) (x2 : Int32) (x4 : Int32) (y0 : Int32) (y1 : Int32) (st : CS) (H : Heap) (locs : List Loc) (ls : Array Slot), wX1_linesOf_55  post k5 x1 x2 x4 y0 y1 st → Cx D (wM o ad d) A s st H locs → lv_has ls 5 [(0, .ref o), (1, .int x1), (2, .int x2), (4, .int x4)] → W p l e (headSpec (ws_ yX1_linesOf cX1_linesOf 5 (some .int)) rmX1_linesOf).room s m args below meth c H locs 0 0 (QI below D d E (wM o ad d) A args s 0 0 post) (F0 m 55 ls [.int y0, .int y1]) := by
  obtain ⟨hx, hb, hr, hml, hown, hts, hlk, hA, hK, hE⟩ := id F
  intro x1 x2 x4 y0 y1 st H locs ls hw C hl
  unfold wX1_linesOf_55 at hw
  refine lv_iadd hx hb dX1_linesOf_55 ?_
  refine lv_topi (fun x3_4 ex3_4 => ?_)
  have hw := hw x3_4 ex3_4
  refine lv_istore_n (lv' := [(3, .int x3_4), (0, .ref o), (1, .int x1), (2, .int x2), (4, .int x4)]) hx hb dX1_linesOf_56 rfl hl (by decide) rfl (fun ls hl => ?_)
  obtain ⟨x4_5, ex4_5⟩ : ∃ y : Int32, y = x4 + 1 := ⟨_, rfl⟩
  have hw := hw x4_5 ex4_5
  refine lv_iinc (v := x4_5) (lv' := [(4, .int x4_5), (3, .int x3_4), (0, .ref o), (1, .int x1), (2, .int x2)]) hx hb dX1_linesOf_57 hl (k := 4) rfl (by rw [ex4_5]; rfl) (by decide) rfl (fun ls hl => ?_)
  refine lv_goto (tgt := 5) hx hb dX1_linesOf_60 (by decide) ?_
  exact hk5 x1 x2 x3_4 x4_5 st _ _ _ hw C (lv_sub hl [2, 3, 4, 1, 0] rfl)
set_option maxHeartbeats 4000000 in
theorem kX1_linesOf_54  {post : Int32 → CS → Prop} {k5 : Int32 → Int32 → Int32 → Int32 → CS → Prop} (F : Fx p s m args meth c cX1_linesOf 5 RX1 (some .int) D d E A) (hk5 : ∀ (x1 : Int32) (x2 : Int32) (x3 : Int32) (x4 : Int32) (st : CS) (H : Heap) (locs : List Loc) (ls : Array Slot), k5 x1 x2 x3 x4 st → Cx D (wM o ad d) A s st H locs → lv_has ls 5 [(0, .ref o), (1, .int x1), (2, .int x2), (3, .int x3), (4, .int x4)] → W p l e (headSpec (ws_ yX1_linesOf cX1_linesOf 5 (some .int)) rmX1_linesOf).room s m args below meth c H locs 0 0 (QI below D d E (wM o ad d) A args s 0 0 post) (F0 m 5 ls [])) : ∀ (x1 : Int32) (x2 : Int32) (x4 : Int32) (y0 : Int32) (st : CS) (H : Heap) (locs : List Loc) (ls : Array Slot), wX1_linesOf_54  post k5 x1 x2 x4 y0 st → Cx D (wM o ad d) A s st H locs → lv_has ls 5 [(0, .ref o), (1, .int x1), (2, .int x2), (4, .int x4)] → W p l e (headSpec (ws_ yX1_linesOf cX1_linesOf 5 (some .int)) rmX1_linesOf).room s m args below meth c H locs 0 0 (QI below D d E (wM o ad d) A args s 0 0 post) (F0 m 54 ls [.int y0]) := by
  obtain ⟨hx, hb, hr, hml, hown, hts, hlk, hA, hK, hE⟩ := id F
  intro x1 x2 x4 y0 st H locs ls hw C hl
  unfold wX1_linesOf_54 at hw
  refine lv_iconst (v := 0) hx hb dX1_linesOf_54 (by decide) ?_
  exact kX1_linesOf_55  F hk5 x1 x2 x4 0 y0 st _ _ _ hw C hl
set_option maxHeartbeats 4000000 in
theorem kX1_linesOf_46  {post : Int32 → CS → Prop} {k5 : Int32 → Int32 → Int32 → Int32 → CS → Prop} (F : Fx p s m args meth c cX1_linesOf 5 RX1 (some .int) D d E A) (hk5 : ∀ (x1 : Int32) (x2 : Int32) (x3 : Int32) (x4 : Int32) (st : CS) (H : Heap) (locs : List Loc) (ls : Array Slot), k5 x1 x2 x3 x4 st → Cx D (wM o ad d) A s st H locs → lv_has ls 5 [(0, .ref o), (1, .int x1), (2, .int x2), (3, .int x3), (4, .int x4)] → W p l e (headSpec (ws_ yX1_linesOf cX1_linesOf 5 (some .int)) rmX1_linesOf).room s m args below meth c H locs 0 0 (QI below D d E (wM o ad d) A args s 0 0 post) (F0 m 5 ls [])) : ∀ (x1 : Int32) (x2 : Int32) (x4 : Int32) (y0 : Int32) (y1 : Int32) (st : CS) (H : Heap) (locs : List Loc) (ls : Array Slot), wX1_linesOf_46  post k5 x1 x2 x4 y0 y1 st → Cx D (wM o ad d) A s st H locs → lv_has ls 5 [(0, .ref o), (1, .int x1), (2, .int x2), (4, .int x4)] → W p l e (headSpec (ws_ yX1_linesOf cX1_linesOf 5 (some .int)) rmX1_linesOf).room s m args below meth c H locs 0 0 (QI below D d E (wM o ad d) A args s 0 0 post) (F0 m 46 ls [.int y0, .int y1]) := by
  obtain ⟨hx, hb, hr, hml, hown, hts, hlk, hA, hK, hE⟩ := id F
  intro x1 x2 x4 y0 y1 st H locs ls hw C hl
  unfold wX1_linesOf_46 at hw
  refine lv_iload_n hx hb dX1_linesOf_46 rfl (lv_at hl 1 rfl) ?_
  refine lv_icmp_ne (tgt := 54) hx hb dX1_linesOf_47 (by decide) (fun c_8 => ?_) (fun c_8 => ?_)
  · have hw := hw.2 c_8
    exact kX1_linesOf_54  F hk5 x1 x2 x4 y1 st _ _ _ hw C hl
  · have hw := hw.1 c_8
    refine lv_iconst (v := 1) hx hb dX1_linesOf_50 (by decide) ?_
    refine lv_goto (tgt := 55) hx hb dX1_linesOf_51 (by decide) ?_
    exact kX1_linesOf_55  F hk5 x1 x2 x4 1 y1 st _ _ _ hw C hl
set_option maxHeartbeats 4000000 in
theorem kX1_linesOf_5  {post : Int32 → CS → Prop}  (F : Fx p s m args meth c cX1_linesOf 5 RX1 (some .int) D d E A) : ∀ (fu : Nat) (x1 : Int32) (x2 : Int32) (x3 : Int32) (x4 : Int32) (st : CS) (H : Heap) (locs : List Loc) (ls : Array Slot), wX1_linesOf_5  post  fu x1 x2 x3 x4 st → Cx D (wM o ad d) A s st H locs → lv_has ls 5 [(0, .ref o), (1, .int x1), (2, .int x2), (3, .int x3), (4, .int x4)] → W p l e (headSpec (ws_ yX1_linesOf cX1_linesOf 5 (some .int)) rmX1_linesOf).room s m args below meth c H locs 0 0 (QI below D d E (wM o ad d) A args s 0 0 post) (F0 m 5 ls []) := by
  obtain ⟨hx, hb, hr, hml, hown, hts, hlk, hA, hK, hE⟩ := id F
  intro fu
  induction fu with
  | zero =>
    intro x1 x2 x3 x4 st H locs ls hw
    exact hw.elim
  | succ n ih =>
    have hk5 := ih
    intro x1 x2 x3 x4 st H locs ls hw C hl
    unfold wX1_linesOf_5 at hw
    refine lv_iload hx hb dX1_linesOf_5 (lv_at hl 4 rfl) ?_
    refine lv_aload_n hx hb dX1_linesOf_7 rfl (lv_at hl 0 rfl) ?_
    refine x1_g6 F C dX1_linesOf_8 ?_
    refine lv_icmp_ge (tgt := 63) hx hb dX1_linesOf_11 (by decide) (fun c_1 => ?_) (fun c_1 => ?_)
    · have hw := hw.1 c_1
      refine lv_iload_n hx hb dX1_linesOf_63 rfl (lv_at hl 3 rfl) ?_
      exact x_iret F C hw dX1_linesOf_64
    · have hw := hw.2 c_1
      refine lv_iload_n hx hb dX1_linesOf_14 rfl (lv_at hl 3 rfl) ?_
      refine lv_aload_n hx hb dX1_linesOf_15 rfl (lv_at hl 0 rfl) ?_
      refine x1_g13 F C dX1_linesOf_16 ?_
      refine lv_iload hx hb dX1_linesOf_19 (lv_at hl 4 rfl) ?_
      obtain ⟨h_2, hw⟩ := hw
      refine x1_ld13 F C h_2 dX1_linesOf_21 ?_
      refine lv_if_ne (tgt := 54) hx hb dX1_linesOf_22 (by decide) (fun c_3 => ?_) (fun c_3 => ?_)
      · have hw := hw.2 c_3
        exact kX1_linesOf_54  F hk5 x1 x2 x4 x3 st _ _ _ hw C (lv_sub hl [0, 1, 2, 4] rfl)
      · have hw := hw.1 c_3
        refine lv_iload_n hx hb dX1_linesOf_25 rfl (lv_at hl 2 rfl) ?_
        refine lv_if_eq (tgt := 39) hx hb dX1_linesOf_26 (by decide) (fun c_6 => ?_) (fun c_6 => ?_)
        · have hw := hw.1 c_6
          refine lv_aload_n hx hb dX1_linesOf_39 rfl (lv_at hl 0 rfl) ?_
          refine x1_g8 F C dX1_linesOf_40 ?_
          refine lv_iload hx hb dX1_linesOf_43 (lv_at hl 4 rfl) ?_
          obtain ⟨h_7, hw⟩ := hw
          refine x1_ld8 F C h_7 dX1_linesOf_45 ?_
          exact kX1_linesOf_46  F hk5 x1 x2 x4 (sA st 8 x4.toNatClampNeg) x3 st _ _ _ hw C (lv_sub hl [0, 1, 2, 4] rfl)
        · have hw := hw.2 c_6
          refine lv_aload_n hx hb dX1_linesOf_29 rfl (lv_at hl 0 rfl) ?_
          refine x1_g9 F C dX1_linesOf_30 ?_
          refine lv_iload hx hb dX1_linesOf_33 (lv_at hl 4 rfl) ?_
          obtain ⟨h_9, hw⟩ := hw
          refine x1_ld9 F C h_9 dX1_linesOf_35 ?_
          refine lv_goto (tgt := 46) hx hb dX1_linesOf_36 (by decide) ?_
          exact kX1_linesOf_46  F hk5 x1 x2 x4 (sA st 9 x4.toNatClampNeg) x3 st _ _ _ hw C (lv_sub hl [0, 1, 2, 4] rfl)
theorem ctX1_linesOf (hE : Em E)  {post : Int32 → CS → Prop} {s0 : CS} {p0 p1 : Int32} (hw : wpX1_linesOf  post s0 p0 p1) : CtI l yX1_linesOf (ws_ yX1_linesOf cX1_linesOf 5 (some .int)) rmX1_linesOf D d E (wM o ad d) 0 0 [.ref o, .int p0, .int p1] s0 post := by
  refine CtI.of hE (by decide) rfl (Nat.le_of_ble_eq_true rfl) ?_
  intro p e s m below meth c A ls F C hl
  have hl : lv_has ls 5 [(0, .ref o), (1, .int p0), (2, .int p1)] := hl
  unfold wpX1_linesOf at hw
  obtain ⟨hx, hb, hr, hml, hown, hts, hlk, hA, hK, -⟩ := id F
  refine lv_iconst (v := 0) hx hb dX1_linesOf_0 (by decide) ?_
  refine lv_istore_n (lv' := [(3, .int 0), (0, .ref o), (1, .int p0), (2, .int p1)]) hx hb dX1_linesOf_1 rfl hl (by decide) rfl (fun ls hl => ?_)
  refine lv_iconst (v := 0) hx hb dX1_linesOf_2 (by decide) ?_
  refine lv_istore (lv' := [(4, .int 0), (3, .int 0), (0, .ref o), (1, .int p0), (2, .int p1)]) hx hb dX1_linesOf_3 hl (by decide) rfl (fun ls hl => ?_)
  obtain ⟨fu, hw⟩ := hw
  exact kX1_linesOf_5  F  fu p0 p1 0 0 s0 _ _ _ hw C (lv_sub hl [2, 3, 4, 1, 0] rfl)

abbrev rmX1_tells : Room := { frames := 1, cells := 0, slots := 0, locals := 24 }
def wX1_tells_61  (post : Int32 → CS → Prop)  (y0 : Int32) (y1 : Int32) (st : CS) : Prop := (wpX1_linesOf (fun r_10 s_9 => (post r_10 s_9)) st y1 y0)
def wpX1_tells  (post : Int32 → CS → Prop) (s0 : CS) (p0 : Int32) (p1 : Int32) : Prop := (∀ v_1 : Int32, v_1 = p1 → ((v_1 = 0 → (vp_in p0 24 ∧ (post (sA s0 3 p0.toNatClampNeg) s0))) ∧ (¬ v_1 = 0 → ((v_1 = 1 → (vp_in p0 24 ∧ (post (sA s0 4 p0.toNatClampNeg) s0))) ∧ (¬ v_1 = 1 → ((v_1 = 2 → (vp_in p0 24 ∧ (post (sA s0 5 p0.toNatClampNeg) s0))) ∧ (¬ v_1 = 2 → ((p1 = 3 → (wX1_tells_61  post  1 p0 s0)) ∧ (¬ p1 = 3 → (wX1_tells_61  post  0 p0 s0))))))))))
set_option maxHeartbeats 4000000 in
theorem kX1_tells_61  {post : Int32 → CS → Prop}  (F : Fx p s m args meth c cX1_tells 3 RX1 (some .int) D d E A) : ∀ (y0 : Int32) (y1 : Int32) (st : CS) (H : Heap) (locs : List Loc) (ls : Array Slot), wX1_tells_61  post  y0 y1 st → Cx D (wM o ad d) A s st H locs → lv_has ls 3 [] → W p l e (headSpec (ws_ yX1_tells cX1_tells 3 (some .int)) rmX1_tells).room s m args below meth c H locs 0 0 (QI below D d E (wM o ad d) A args s 0 0 post) (F0 m 61 ls [.int y0, .int y1, .ref o]) := by
  obtain ⟨hx, hb, hr, hml, hown, hts, hlk, hA, hK, hE⟩ := id F
  intro y0 y1 st H locs ls hw C hl
  unfold wX1_tells_61 at hw
  refine x_callI (rest := []) (ci := 5) (q := (RX1, TX1, 55)) F C (ctX1_linesOf hE hw) (cwV 2 hts (lw_V q1054 q1056 qs39 q71 q1057) rfl rfl rfl (by decide +kernel) ⟨Nat.le_of_ble_eq_true rfl, Nat.le_of_ble_eq_true rfl⟩) rfl rfl rfl hl.1 rfl (Nat.le_of_ble_eq_true rfl) dX1_tells_61 ⟨Nat.zero_le _, Nat.zero_le _⟩ (fun r_10 s_9 H locs hw C => ?_)
  exact x_iret F C hw dX1_tells_64
theorem ctX1_tells (hE : Em E)  {post : Int32 → CS → Prop} {s0 : CS} {p0 p1 : Int32} (hw : wpX1_tells  post s0 p0 p1) : CtI l yX1_tells (ws_ yX1_tells cX1_tells 3 (some .int)) rmX1_tells D d E (wM o ad d) 0 0 [.ref o, .int p0, .int p1] s0 post := by
  refine CtI.of hE (by decide) rfl (Nat.le_of_ble_eq_true rfl) ?_
  intro p e s m below meth c A ls F C hl
  have hl : lv_has ls 3 [(0, .ref o), (1, .int p0), (2, .int p1)] := hl
  unfold wpX1_tells at hw
  obtain ⟨hx, hb, hr, hml, hown, hts, hlk, hA, hK, -⟩ := id F
  refine lv_iload_n hx hb dX1_tells_0 rfl (lv_at hl 2 rfl) ?_
  refine lv_topi (fun v_1 ev_1 => ?_)
  have hw := hw v_1 ev_1
  by_cases c_2 : v_1 = 0
  · have hw := hw.1 c_2
    refine lv_tableIn (tgt := 28) (off := 27) hx hb dX1_tells_1 (by rw [c_2]; decide) (by rw [c_2]; decide) (by rw [c_2]; decide) (by decide) ?_
    refine lv_aload_n hx hb dX1_tells_28 rfl (lv_at hl 0 rfl) ?_
    refine x1_g3 F C dX1_tells_29 ?_
    refine lv_iload_n hx hb dX1_tells_32 rfl (lv_at hl 1 rfl) ?_
    obtain ⟨h_3, hw⟩ := hw
    refine x1_ld3 F C h_3 dX1_tells_33 ?_
    exact x_iret F C hw dX1_tells_34
  · have hw := hw.2 c_2
    by_cases c_4 : v_1 = 1
    · have hw := hw.1 c_4
      refine lv_tableIn (tgt := 35) (off := 34) hx hb dX1_tells_1 (by rw [c_4]; decide) (by rw [c_4]; decide) (by rw [c_4]; decide) (by decide) ?_
      refine lv_aload_n hx hb dX1_tells_35 rfl (lv_at hl 0 rfl) ?_
      refine x1_g4 F C dX1_tells_36 ?_
      refine lv_iload_n hx hb dX1_tells_39 rfl (lv_at hl 1 rfl) ?_
      obtain ⟨h_5, hw⟩ := hw
      refine x1_ld4 F C h_5 dX1_tells_40 ?_
      exact x_iret F C hw dX1_tells_41
    · have hw := hw.2 c_4
      by_cases c_6 : v_1 = 2
      · have hw := hw.1 c_6
        refine lv_tableIn (tgt := 42) (off := 41) hx hb dX1_tells_1 (by rw [c_6]; decide) (by rw [c_6]; decide) (by rw [c_6]; decide) (by decide) ?_
        refine lv_aload_n hx hb dX1_tells_42 rfl (lv_at hl 0 rfl) ?_
        refine x1_g5 F C dX1_tells_43 ?_
        refine lv_iload_n hx hb dX1_tells_46 rfl (lv_at hl 1 rfl) ?_
        obtain ⟨h_7, hw⟩ := hw
        refine x1_ld5 F C h_7 dX1_tells_47 ?_
        exact x_iret F C hw dX1_tells_48
      · have hw := hw.2 c_6
        have hz_11 : v_1.toInt ≠ 0 := fun h9 => c_2 (Int32.toInt_inj.mp (h9.trans (by decide)))
        have hz_12 : v_1.toInt ≠ 1 := fun h9 => c_4 (Int32.toInt_inj.mp (h9.trans (by decide)))
        have hz_13 : v_1.toInt ≠ 2 := fun h9 => c_6 (Int32.toInt_inj.mp (h9.trans (by decide)))
        refine lv_tableOut (tgt := 49) hx hb dX1_tells_1 (by omega) (by decide) ?_
        refine lv_aload_n hx hb dX1_tells_49 rfl (lv_at hl 0 rfl) ?_
        refine lv_iload_n hx hb dX1_tells_50 rfl (lv_at hl 1 rfl) ?_
        refine lv_iload_n hx hb dX1_tells_51 rfl (lv_at hl 2 rfl) ?_
        refine lv_iconst (v := 3) hx hb dX1_tells_52 (by decide) ?_
        refine lv_icmp_ne (tgt := 60) hx hb dX1_tells_53 (by decide) (fun c_8 => ?_) (fun c_8 => ?_)
        · have hw := hw.2 c_8
          refine lv_iconst (v := 0) hx hb dX1_tells_60 (by decide) ?_
          exact kX1_tells_61  F  0 p0 s0 _ _ _ hw C (lv_sub hl [] rfl)
        · have hw := hw.1 c_8
          refine lv_iconst (v := 1) hx hb dX1_tells_56 (by decide) ?_
          refine lv_goto (tgt := 61) hx hb dX1_tells_57 (by decide) ?_
          exact kX1_tells_61  F  1 p0 s0 _ _ _ hw C (lv_sub hl [] rfl)

abbrev rmX1_told : Room := { frames := 2, cells := 0, slots := 0, locals := 46 }
def wX1_told_26  (post : Int32 → CS → Prop)   (st : CS) : Prop := (post (-1) st)
def wpX1_told  (post : Int32 → CS → Prop) (s0 : CS) (p0 : Int32) (p1 : Int32) : Prop := (wpX1_isPerson (fun r_2 s_1 => ((r_2 = 0 → (wX1_told_26  post  s_1)) ∧ (¬ r_2 = 0 → (wpX1_in (fun r_5 s_4 => ((r_5 = 0 → (wX1_told_26  post  s_4)) ∧ (¬ r_5 = 0 → (wpX1_tells (fun r_8 s_7 => (post r_8 s_7)) s_4 p0 p1)))) s_1 p1 0 4)))) s0 p0)
set_option maxHeartbeats 4000000 in
theorem kX1_told_26  {post : Int32 → CS → Prop}  (F : Fx p s m args meth c cX1_told 3 RX1 (some .int) D d E A) : ∀  (st : CS) (H : Heap) (locs : List Loc) (ls : Array Slot), wX1_told_26  post  st → Cx D (wM o ad d) A s st H locs → lv_has ls 3 [] → W p l e (headSpec (ws_ yX1_told cX1_told 3 (some .int)) rmX1_told).room s m args below meth c H locs 0 0 (QI below D d E (wM o ad d) A args s 0 0 post) (F0 m 26 ls []) := by
  obtain ⟨hx, hb, hr, hml, hown, hts, hlk, hA, hK, hE⟩ := id F
  intro st H locs ls hw C hl
  unfold wX1_told_26 at hw
  refine lv_iconst (v := (-1)) hx hb dX1_told_26 (by decide) ?_
  exact x_iret F C hw dX1_told_27
theorem ctX1_told (hE : Em E)  {post : Int32 → CS → Prop} {s0 : CS} {p0 p1 : Int32} (hw : wpX1_told  post s0 p0 p1) : CtI l yX1_told (ws_ yX1_told cX1_told 3 (some .int)) rmX1_told D d E (wM o ad d) 0 0 [.ref o, .int p0, .int p1] s0 post := by
  refine CtI.of hE (by decide) rfl (Nat.le_of_ble_eq_true rfl) ?_
  intro p e s m below meth c A ls F C hl
  have hl : lv_has ls 3 [(0, .ref o), (1, .int p0), (2, .int p1)] := hl
  unfold wpX1_told at hw
  obtain ⟨hx, hb, hr, hml, hown, hts, hlk, hA, hK, -⟩ := id F
  refine lv_aload_n hx hb dX1_told_0 rfl (lv_at hl 0 rfl) ?_
  refine lv_iload_n hx hb dX1_told_1 rfl (lv_at hl 1 rfl) ?_
  refine x_callI (rest := []) (ci := 5) (q := (RX1, TX1, 55)) F C (ctX1_isPerson hE hw) (cwV 1 hts (lw_V q1046 q1048 qs37 q71 q1049) rfl rfl rfl (by decide +kernel) ⟨Nat.le_of_ble_eq_true rfl, Nat.le_of_ble_eq_true rfl⟩) rfl rfl rfl hl.1 rfl (Nat.le_of_ble_eq_true rfl) dX1_told_2 ⟨Nat.zero_le _, Nat.zero_le _⟩ (fun r_2 s_1 H locs hw C => ?_)
  refine lv_if_eq (tgt := 26) hx hb dX1_told_5 (by decide) (fun c_3 => ?_) (fun c_3 => ?_)
  · have hw := hw.1 c_3
    exact kX1_told_26  F  s_1 _ _ _ hw C (lv_sub hl [] rfl)
  · have hw := hw.2 c_3
    refine lv_iload_n hx hb dX1_told_8 rfl (lv_at hl 2 rfl) ?_
    refine lv_iconst (v := 0) hx hb dX1_told_9 (by decide) ?_
    refine lv_iconst (v := 4) hx hb dX1_told_10 (by decide) ?_
    refine x_callSI (rest := []) F C (ctX1_in hE hw) (va_cwS 3 hts (lw_S q1035 q1036 q71 q1037) rfl rfl rfl (by decide +kernel) ⟨Nat.le_of_ble_eq_true rfl, Nat.le_of_ble_eq_true rfl⟩) rfl hl.1 rfl (Nat.le_of_ble_eq_true rfl) dX1_told_11 ⟨Nat.zero_le _, Nat.zero_le _⟩ (fun r_5 s_4 H locs hw C => ?_)
    refine lv_if_eq (tgt := 26) hx hb dX1_told_14 (by decide) (fun c_6 => ?_) (fun c_6 => ?_)
    · have hw := hw.1 c_6
      exact kX1_told_26  F  s_4 _ _ _ hw C (lv_sub hl [] rfl)
    · have hw := hw.2 c_6
      refine lv_aload_n hx hb dX1_told_17 rfl (lv_at hl 0 rfl) ?_
      refine lv_iload_n hx hb dX1_told_18 rfl (lv_at hl 1 rfl) ?_
      refine lv_iload_n hx hb dX1_told_19 rfl (lv_at hl 2 rfl) ?_
      refine x_callI (rest := []) (ci := 5) (q := (RX1, TX1, 55)) F C (ctX1_tells hE hw) (cwV 2 hts (lw_V q1050 q1052 qs38 q71 q1053) rfl rfl rfl (by decide +kernel) ⟨Nat.le_of_ble_eq_true rfl, Nat.le_of_ble_eq_true rfl⟩) rfl rfl rfl hl.1 rfl (Nat.le_of_ble_eq_true rfl) dX1_told_20 ⟨Nat.zero_le _, Nat.zero_le _⟩ (fun r_8 s_7 H locs hw C => ?_)
      refine lv_goto (tgt := 27) hx hb dX1_told_23 (by decide) ?_
      exact x_iret F C hw dX1_told_27

abbrev rmX1_die : Room := { frames := 2, cells := 0, slots := 0, locals := 43 }
def wpX1_die  (post : Int32 → CS → Prop) (s0 : CS) (p0 : Int32) (p1 : Int32) : Prop := (wpX1_isPerson (fun r_2 s_1 => ((r_2 = 0 → (post (-1) s_1)) ∧ (¬ r_2 = 0 → (vp_in p0 24 ∧ (wpX1_in (fun r_6 s_5 => ((r_6 = 0 → (post (-1) s_5)) ∧ (¬ r_6 = 0 → (vp_in p0 24 ∧ (((sA s_5 5 p0.toNatClampNeg) = (-9) → (vp_in p0 24 ∧ ∀ s_11 : CS, s_11 = uA s_5 5 p0.toNatClampNeg p1 → (post 1 s_11))) ∧ (¬ (sA s_5 5 p0.toNatClampNeg) = (-9) → (post (-4) s_5))))))) s_1 p1 (sA s_1 4 p0.toNatClampNeg) 100000))))) s0 p0)
theorem ctX1_die (hE : Em E)  {post : Int32 → CS → Prop} {s0 : CS} {p0 p1 : Int32} (hw : wpX1_die  post s0 p0 p1) : CtI l yX1_die (ws_ yX1_die cX1_die 3 (some .int)) rmX1_die D d E (wM o ad d) 0 0 [.ref o, .int p0, .int p1] s0 post := by
  refine CtI.of hE (by decide) rfl (Nat.le_of_ble_eq_true rfl) ?_
  intro p e s m below meth c A ls F C hl
  have hl : lv_has ls 3 [(0, .ref o), (1, .int p0), (2, .int p1)] := hl
  unfold wpX1_die at hw
  obtain ⟨hx, hb, hr, hml, hown, hts, hlk, hA, hK, -⟩ := id F
  refine lv_aload_n hx hb dX1_die_0 rfl (lv_at hl 0 rfl) ?_
  refine lv_iload_n hx hb dX1_die_1 rfl (lv_at hl 1 rfl) ?_
  refine x_callI (rest := []) (ci := 5) (q := (RX1, TX1, 55)) F C (ctX1_isPerson hE hw) (cwV 1 hts (lw_V q1046 q1048 qs37 q71 q1049) rfl rfl rfl (by decide +kernel) ⟨Nat.le_of_ble_eq_true rfl, Nat.le_of_ble_eq_true rfl⟩) rfl rfl rfl hl.1 rfl (Nat.le_of_ble_eq_true rfl) dX1_die_2 ⟨Nat.zero_le _, Nat.zero_le _⟩ (fun r_2 s_1 H locs hw C => ?_)
  refine lv_if_eq (tgt := 23) hx hb dX1_die_5 (by decide) (fun c_3 => ?_) (fun c_3 => ?_)
  · have hw := hw.1 c_3
    refine lv_iconst (v := (-1)) hx hb dX1_die_23 (by decide) ?_
    exact x_iret F C hw dX1_die_24
  · have hw := hw.2 c_3
    refine lv_iload_n hx hb dX1_die_8 rfl (lv_at hl 2 rfl) ?_
    refine lv_aload_n hx hb dX1_die_9 rfl (lv_at hl 0 rfl) ?_
    refine x1_g4 F C dX1_die_10 ?_
    refine lv_iload_n hx hb dX1_die_13 rfl (lv_at hl 1 rfl) ?_
    obtain ⟨h_4, hw⟩ := hw
    refine x1_ld4 F C h_4 dX1_die_14 ?_
    refine lv_ldc hx hb hown (hts _ q1041) dX1_die_15 ?_
    refine x_callSI (rest := []) F C (ctX1_in hE hw) (va_cwS 3 hts (lw_S q1035 q1036 q71 q1037) rfl rfl rfl (by decide +kernel) ⟨Nat.le_of_ble_eq_true rfl, Nat.le_of_ble_eq_true rfl⟩) rfl hl.1 rfl (Nat.le_of_ble_eq_true rfl) dX1_die_17 ⟨Nat.zero_le _, Nat.zero_le _⟩ (fun r_6 s_5 H locs hw C => ?_)
    refine lv_if_ne (tgt := 25) hx hb dX1_die_20 (by decide) (fun c_7 => ?_) (fun c_7 => ?_)
    · have hw := hw.2 c_7
      refine lv_aload_n hx hb dX1_die_25 rfl (lv_at hl 0 rfl) ?_
      refine x1_g5 F C dX1_die_26 ?_
      refine lv_iload_n hx hb dX1_die_29 rfl (lv_at hl 1 rfl) ?_
      obtain ⟨h_8, hw⟩ := hw
      refine x1_ld5 F C h_8 dX1_die_30 ?_
      refine lv_bipush (v := (-9)) hx hb dX1_die_31 (by decide) ?_
      refine lv_icmp_eq (tgt := 39) hx hb dX1_die_33 (by decide) (fun c_9 => ?_) (fun c_9 => ?_)
      · have hw := hw.1 c_9
        refine lv_aload_n hx hb dX1_die_39 rfl (lv_at hl 0 rfl) ?_
        refine x1_g5 F C dX1_die_40 ?_
        refine lv_iload_n hx hb dX1_die_43 rfl (lv_at hl 1 rfl) ?_
        refine lv_iload_n hx hb dX1_die_44 rfl (lv_at hl 2 rfl) ?_
        obtain ⟨h_10, hw⟩ := hw
        refine x1_st5 F C h_10 dX1_die_45 (fun H locs s_11 es_11 C => ?_)
        have hw := hw s_11 es_11
        refine lv_iconst (v := 1) hx hb dX1_die_46 (by decide) ?_
        exact x_iret F C hw dX1_die_47
      · have hw := hw.2 c_9
        refine lv_bipush (v := (-4)) hx hb dX1_die_36 (by decide) ?_
        exact x_iret F C hw dX1_die_38
    · have hw := hw.1 c_7
      refine lv_iconst (v := (-1)) hx hb dX1_die_23 (by decide) ?_
      exact x_iret F C hw dX1_die_24

abbrev rmX1_line : Room := { frames := 2, cells := 0, slots := 0, locals := 43 }
def wX1_line_160  (post : Int32 → CS → Prop) (k109 : Int32 → Int32 → Int32 → Int32 → Int32 → Int32 → Int32 → CS → Prop) (x1 : Int32) (x2 : Int32) (x3 : Int32) (x4 : Int32) (x5 : Int32) (x7 : Int32) (y0 : Int32) (st : CS) : Prop := (∀ x7_34 : Int32, x7_34 = x7 + 1 → (k109 x1 x2 x3 x4 x5 y0 x7_34 st))
def wX1_line_155  (post : Int32 → CS → Prop) (k109 : Int32 → Int32 → Int32 → Int32 → Int32 → Int32 → Int32 → CS → Prop) (x1 : Int32) (x2 : Int32) (x3 : Int32) (x4 : Int32) (x5 : Int32) (x7 : Int32) (st : CS) : Prop := (wX1_line_160  post k109 x1 x2 x3 x4 x5 x7 1 st)
def wX1_line_159  (post : Int32 → CS → Prop) (k109 : Int32 → Int32 → Int32 → Int32 → Int32 → Int32 → Int32 → CS → Prop) (x1 : Int32) (x2 : Int32) (x3 : Int32) (x4 : Int32) (x5 : Int32) (x7 : Int32) (st : CS) : Prop := (wX1_line_160  post k109 x1 x2 x3 x4 x5 x7 0 st)
def wX1_line_109  (post : Int32 → CS → Prop)  : Nat → Int32 → Int32 → Int32 → Int32 → Int32 → Int32 → Int32 → CS → Prop
  | 0 => fun _ _ _ _ _ _ _ _ => False
  | n + 1 => fun x1 x2 x3 x4 x5 x6 x7 st => (((sI st 6) ≤ x7 → ((x6 = 0 → (vp_in (sI st 6) 40 ∧ ∀ s_23 : CS, s_23 = uA st 7 (sI st 6).toNatClampNeg x1 → (vp_in (sI s_23 6) 40 ∧ ∀ s_25 : CS, s_25 = uA s_23 8 (sI s_23 6).toNatClampNeg x2 → (vp_in (sI s_25 6) 40 ∧ ∀ s_27 : CS, s_27 = uA s_25 9 (sI s_25 6).toNatClampNeg x3 → (vp_in (sI s_27 6) 40 ∧ ∀ s_29 : CS, s_29 = uA s_27 10 (sI s_27 6).toNatClampNeg x4 → (vp_in (sI s_29 6) 40 ∧ ∀ s_31 : CS, s_31 = uA s_29 11 (sI s_29 6).toNatClampNeg x5 → (∀ s_32 : CS, s_32 = uI s_31 6 ((sI s_31 6) + 1) → (post ((sI s_32 6) - 1) s_32)))))))) ∧ (¬ x6 = 0 → (post (-4) st)))) ∧ (¬ (sI st 6) ≤ x7 → ((x6 = 0 → (vp_in x7 40 ∧ (((sA st 13 x7.toNatClampNeg) = 0 → (vp_in x7 40 ∧ (((sA st 8 x7.toNatClampNeg) = x2 → (vp_in x7 40 ∧ (((sA st 9 x7.toNatClampNeg) = x3 → (wX1_line_155  post (wX1_line_109  post  n) x1 x2 x3 x4 x5 x7 st)) ∧ (¬ (sA st 9 x7.toNatClampNeg) = x3 → (wX1_line_159  post (wX1_line_109  post  n) x1 x2 x3 x4 x5 x7 st))))) ∧ (¬ (sA st 8 x7.toNatClampNeg) = x2 → (wX1_line_159  post (wX1_line_109  post  n) x1 x2 x3 x4 x5 x7 st))))) ∧ (¬ (sA st 13 x7.toNatClampNeg) = 0 → (wX1_line_159  post (wX1_line_109  post  n) x1 x2 x3 x4 x5 x7 st))))) ∧ (¬ x6 = 0 → (wX1_line_155  post (wX1_line_109  post  n) x1 x2 x3 x4 x5 x7 st)))))
def wX1_line_104  (post : Int32 → CS → Prop)  (x1 : Int32) (x2 : Int32) (x3 : Int32) (x4 : Int32) (x5 : Int32) (y0 : Int32) (st : CS) : Prop := (∃ fu : Nat, wX1_line_109  post  fu x1 x2 x3 x4 x5 y0 0 st)
def wX1_line_77  (post : Int32 → CS → Prop)  (x1 : Int32) (x2 : Int32) (x3 : Int32) (x4 : Int32) (x5 : Int32) (st : CS) : Prop := (((sI st 6) = 40 → (post (-2) st)) ∧ (¬ (sI st 6) = 40 → (wpX1_linesOf (fun r_18 s_17 => ((r_18 < 2 → (wX1_line_104  post  x1 x2 x3 x4 x5 0 s_17)) ∧ (¬ r_18 < 2 → (wX1_line_104  post  x1 x2 x3 x4 x5 1 s_17)))) st x3 1)))
def wX1_line_58  (post : Int32 → CS → Prop)  (x1 : Int32) (x2 : Int32) (x3 : Int32) (x4 : Int32) (x5 : Int32) (st : CS) : Prop := ((x1 = 1 → (wpX1_in (fun r_42 s_41 => ((r_42 = 0 → (post (-1) s_41)) ∧ (¬ r_42 = 0 → (wX1_line_77  post  x1 x2 x3 x4 x5 s_41)))) st x5 1 1000)) ∧ (¬ x1 = 1 → (wX1_line_77  post  x1 x2 x3 x4 x5 st)))
def wpX1_line  (post : Int32 → CS → Prop) (s0 : CS) (p0 : Int32) (p1 : Int32) (p2 : Int32) (p3 : Int32) (p4 : Int32) : Prop := (wpX1_in (fun r_2 s_1 => ((r_2 = 0 → (post (-1) s_1)) ∧ (¬ r_2 = 0 → ((p0 = 2 → (post (-1) s_1)) ∧ (¬ p0 = 2 → (wpX1_isPerson (fun r_6 s_5 => ((r_6 = 0 → (post (-1) s_5)) ∧ (¬ r_6 = 0 → (wpX1_isPerson (fun r_9 s_8 => ((r_9 = 0 → (post (-1) s_8)) ∧ (¬ r_9 = 0 → (vp_in p1 24 ∧ (vp_in p2 24 ∧ (((sA s_8 4 p2.toNatClampNeg) ≤ (sA s_8 4 p1.toNatClampNeg) → (post (-1) s_8)) ∧ (¬ (sA s_8 4 p2.toNatClampNeg) ≤ (sA s_8 4 p1.toNatClampNeg) → ((p0 = 3 → (wpX1_isDay (fun r_45 s_44 => ((r_45 = 0 → (post (-1) s_44)) ∧ (¬ r_45 = 0 → (wX1_line_58  post  p0 p1 p2 p3 p4 s_44)))) s_8 p3)) ∧ (¬ p0 = 3 → (wX1_line_58  post  p0 p1 p2 p3 p4 s_8)))))))))) s_5 p2)))) s_1 p1)))))) s0 p0 0 3)
set_option maxHeartbeats 4000000 in
theorem kX1_line_160  {post : Int32 → CS → Prop} {k109 : Int32 → Int32 → Int32 → Int32 → Int32 → Int32 → Int32 → CS → Prop} (F : Fx p s m args meth c cX1_line 8 RX1 (some .int) D d E A) (hk109 : ∀ (x1 : Int32) (x2 : Int32) (x3 : Int32) (x4 : Int32) (x5 : Int32) (x6 : Int32) (x7 : Int32) (st : CS) (H : Heap) (locs : List Loc) (ls : Array Slot), k109 x1 x2 x3 x4 x5 x6 x7 st → Cx D (wM o ad d) A s st H locs → lv_has ls 8 [(0, .ref o), (1, .int x1), (2, .int x2), (3, .int x3), (4, .int x4), (5, .int x5), (6, .int x6), (7, .int x7)] → W p l e (headSpec (ws_ yX1_line cX1_line 8 (some .int)) rmX1_line).room s m args below meth c H locs 0 0 (QI below D d E (wM o ad d) A args s 0 0 post) (F0 m 109 ls [])) : ∀ (x1 : Int32) (x2 : Int32) (x3 : Int32) (x4 : Int32) (x5 : Int32) (x7 : Int32) (y0 : Int32) (st : CS) (H : Heap) (locs : List Loc) (ls : Array Slot), wX1_line_160  post k109 x1 x2 x3 x4 x5 x7 y0 st → Cx D (wM o ad d) A s st H locs → lv_has ls 8 [(0, .ref o), (1, .int x1), (2, .int x2), (3, .int x3), (4, .int x4), (5, .int x5), (7, .int x7)] → W p l e (headSpec (ws_ yX1_line cX1_line 8 (some .int)) rmX1_line).room s m args below meth c H locs 0 0 (QI below D d E (wM o ad d) A args s 0 0 post) (F0 m 160 ls [.int y0]) := by
  obtain ⟨hx, hb, hr, hml, hown, hts, hlk, hA, hK, hE⟩ := id F
  intro x1 x2 x3 x4 x5 x7 y0 st H locs ls hw C hl
  unfold wX1_line_160 at hw
  refine lv_istore (lv' := [(6, .int y0), (0, .ref o), (1, .int x1), (2, .int x2), (3, .int x3), (4, .int x4), (5, .int x5), (7, .int x7)]) hx hb dX1_line_160 hl (by decide) rfl (fun ls hl => ?_)
  obtain ⟨x7_34, ex7_34⟩ : ∃ y : Int32, y = x7 + 1 := ⟨_, rfl⟩
  have hw := hw x7_34 ex7_34
  refine lv_iinc (v := x7_34) (lv' := [(7, .int x7_34), (6, .int y0), (0, .ref o), (1, .int x1), (2, .int x2), (3, .int x3), (4, .int x4), (5, .int x5)]) hx hb dX1_line_162 hl (k := 7) rfl (by rw [ex7_34]; rfl) (by decide) rfl (fun ls hl => ?_)
  refine lv_goto (tgt := 109) hx hb dX1_line_165 (by decide) ?_
  exact hk109 x1 x2 x3 x4 x5 y0 x7_34 st _ _ _ hw C (lv_sub hl [2, 3, 4, 5, 6, 7, 1, 0] rfl)
set_option maxHeartbeats 4000000 in
theorem kX1_line_155  {post : Int32 → CS → Prop} {k109 : Int32 → Int32 → Int32 → Int32 → Int32 → Int32 → Int32 → CS → Prop} (F : Fx p s m args meth c cX1_line 8 RX1 (some .int) D d E A) (hk109 : ∀ (x1 : Int32) (x2 : Int32) (x3 : Int32) (x4 : Int32) (x5 : Int32) (x6 : Int32) (x7 : Int32) (st : CS) (H : Heap) (locs : List Loc) (ls : Array Slot), k109 x1 x2 x3 x4 x5 x6 x7 st → Cx D (wM o ad d) A s st H locs → lv_has ls 8 [(0, .ref o), (1, .int x1), (2, .int x2), (3, .int x3), (4, .int x4), (5, .int x5), (6, .int x6), (7, .int x7)] → W p l e (headSpec (ws_ yX1_line cX1_line 8 (some .int)) rmX1_line).room s m args below meth c H locs 0 0 (QI below D d E (wM o ad d) A args s 0 0 post) (F0 m 109 ls [])) : ∀ (x1 : Int32) (x2 : Int32) (x3 : Int32) (x4 : Int32) (x5 : Int32) (x7 : Int32) (st : CS) (H : Heap) (locs : List Loc) (ls : Array Slot), wX1_line_155  post k109 x1 x2 x3 x4 x5 x7 st → Cx D (wM o ad d) A s st H locs → lv_has ls 8 [(0, .ref o), (1, .int x1), (2, .int x2), (3, .int x3), (4, .int x4), (5, .int x5), (7, .int x7)] → W p l e (headSpec (ws_ yX1_line cX1_line 8 (some .int)) rmX1_line).room s m args below meth c H locs 0 0 (QI below D d E (wM o ad d) A args s 0 0 post) (F0 m 155 ls []) := by
  obtain ⟨hx, hb, hr, hml, hown, hts, hlk, hA, hK, hE⟩ := id F
  intro x1 x2 x3 x4 x5 x7 st H locs ls hw C hl
  unfold wX1_line_155 at hw
  refine lv_iconst (v := 1) hx hb dX1_line_155 (by decide) ?_
  refine lv_goto (tgt := 160) hx hb dX1_line_156 (by decide) ?_
  exact kX1_line_160  F hk109 x1 x2 x3 x4 x5 x7 1 st _ _ _ hw C hl
set_option maxHeartbeats 4000000 in
theorem kX1_line_159  {post : Int32 → CS → Prop} {k109 : Int32 → Int32 → Int32 → Int32 → Int32 → Int32 → Int32 → CS → Prop} (F : Fx p s m args meth c cX1_line 8 RX1 (some .int) D d E A) (hk109 : ∀ (x1 : Int32) (x2 : Int32) (x3 : Int32) (x4 : Int32) (x5 : Int32) (x6 : Int32) (x7 : Int32) (st : CS) (H : Heap) (locs : List Loc) (ls : Array Slot), k109 x1 x2 x3 x4 x5 x6 x7 st → Cx D (wM o ad d) A s st H locs → lv_has ls 8 [(0, .ref o), (1, .int x1), (2, .int x2), (3, .int x3), (4, .int x4), (5, .int x5), (6, .int x6), (7, .int x7)] → W p l e (headSpec (ws_ yX1_line cX1_line 8 (some .int)) rmX1_line).room s m args below meth c H locs 0 0 (QI below D d E (wM o ad d) A args s 0 0 post) (F0 m 109 ls [])) : ∀ (x1 : Int32) (x2 : Int32) (x3 : Int32) (x4 : Int32) (x5 : Int32) (x7 : Int32) (st : CS) (H : Heap) (locs : List Loc) (ls : Array Slot), wX1_line_159  post k109 x1 x2 x3 x4 x5 x7 st → Cx D (wM o ad d) A s st H locs → lv_has ls 8 [(0, .ref o), (1, .int x1), (2, .int x2), (3, .int x3), (4, .int x4), (5, .int x5), (7, .int x7)] → W p l e (headSpec (ws_ yX1_line cX1_line 8 (some .int)) rmX1_line).room s m args below meth c H locs 0 0 (QI below D d E (wM o ad d) A args s 0 0 post) (F0 m 159 ls []) := by
  obtain ⟨hx, hb, hr, hml, hown, hts, hlk, hA, hK, hE⟩ := id F
  intro x1 x2 x3 x4 x5 x7 st H locs ls hw C hl
  unfold wX1_line_159 at hw
  refine lv_iconst (v := 0) hx hb dX1_line_159 (by decide) ?_
  exact kX1_line_160  F hk109 x1 x2 x3 x4 x5 x7 0 st _ _ _ hw C hl
set_option maxHeartbeats 4000000 in
theorem kX1_line_109  {post : Int32 → CS → Prop}  (F : Fx p s m args meth c cX1_line 8 RX1 (some .int) D d E A) : ∀ (fu : Nat) (x1 : Int32) (x2 : Int32) (x3 : Int32) (x4 : Int32) (x5 : Int32) (x6 : Int32) (x7 : Int32) (st : CS) (H : Heap) (locs : List Loc) (ls : Array Slot), wX1_line_109  post  fu x1 x2 x3 x4 x5 x6 x7 st → Cx D (wM o ad d) A s st H locs → lv_has ls 8 [(0, .ref o), (1, .int x1), (2, .int x2), (3, .int x3), (4, .int x4), (5, .int x5), (6, .int x6), (7, .int x7)] → W p l e (headSpec (ws_ yX1_line cX1_line 8 (some .int)) rmX1_line).room s m args below meth c H locs 0 0 (QI below D d E (wM o ad d) A args s 0 0 post) (F0 m 109 ls []) := by
  obtain ⟨hx, hb, hr, hml, hown, hts, hlk, hA, hK, hE⟩ := id F
  intro fu
  induction fu with
  | zero =>
    intro x1 x2 x3 x4 x5 x6 x7 st H locs ls hw
    exact hw.elim
  | succ n ih =>
    have hk109 := ih
    intro x1 x2 x3 x4 x5 x6 x7 st H locs ls hw C hl
    unfold wX1_line_109 at hw
    refine lv_iload hx hb dX1_line_109 (lv_at hl 7 rfl) ?_
    refine lv_aload_n hx hb dX1_line_111 rfl (lv_at hl 0 rfl) ?_
    refine x1_g6 F C dX1_line_112 ?_
    refine lv_icmp_ge (tgt := 168) hx hb dX1_line_115 (by decide) (fun c_20 => ?_) (fun c_20 => ?_)
    · have hw := hw.1 c_20
      refine lv_iload hx hb dX1_line_168 (lv_at hl 6 rfl) ?_
      refine lv_if_eq (tgt := 176) hx hb dX1_line_170 (by decide) (fun c_21 => ?_) (fun c_21 => ?_)
      · have hw := hw.1 c_21
        refine lv_aload_n hx hb dX1_line_176 rfl (lv_at hl 0 rfl) ?_
        refine x1_g7 F C dX1_line_177 ?_
        refine lv_aload_n hx hb dX1_line_180 rfl (lv_at hl 0 rfl) ?_
        refine x1_g6 F C dX1_line_181 ?_
        refine lv_iload_n hx hb dX1_line_184 rfl (lv_at hl 1 rfl) ?_
        obtain ⟨h_22, hw⟩ := hw
        refine x1_st7 F C h_22 dX1_line_185 (fun H locs s_23 es_23 C => ?_)
        have hw := hw s_23 es_23
        refine lv_aload_n hx hb dX1_line_186 rfl (lv_at hl 0 rfl) ?_
        refine x1_g8 F C dX1_line_187 ?_
        refine lv_aload_n hx hb dX1_line_190 rfl (lv_at hl 0 rfl) ?_
        refine x1_g6 F C dX1_line_191 ?_
        refine lv_iload_n hx hb dX1_line_194 rfl (lv_at hl 2 rfl) ?_
        obtain ⟨h_24, hw⟩ := hw
        refine x1_st8 F C h_24 dX1_line_195 (fun H locs s_25 es_25 C => ?_)
        have hw := hw s_25 es_25
        refine lv_aload_n hx hb dX1_line_196 rfl (lv_at hl 0 rfl) ?_
        refine x1_g9 F C dX1_line_197 ?_
        refine lv_aload_n hx hb dX1_line_200 rfl (lv_at hl 0 rfl) ?_
        refine x1_g6 F C dX1_line_201 ?_
        refine lv_iload_n hx hb dX1_line_204 rfl (lv_at hl 3 rfl) ?_
        obtain ⟨h_26, hw⟩ := hw
        refine x1_st9 F C h_26 dX1_line_205 (fun H locs s_27 es_27 C => ?_)
        have hw := hw s_27 es_27
        refine lv_aload_n hx hb dX1_line_206 rfl (lv_at hl 0 rfl) ?_
        refine x1_g10 F C dX1_line_207 ?_
        refine lv_aload_n hx hb dX1_line_210 rfl (lv_at hl 0 rfl) ?_
        refine x1_g6 F C dX1_line_211 ?_
        refine lv_iload hx hb dX1_line_214 (lv_at hl 4 rfl) ?_
        obtain ⟨h_28, hw⟩ := hw
        refine x1_st10 F C h_28 dX1_line_216 (fun H locs s_29 es_29 C => ?_)
        have hw := hw s_29 es_29
        refine lv_aload_n hx hb dX1_line_217 rfl (lv_at hl 0 rfl) ?_
        refine x1_g11 F C dX1_line_218 ?_
        refine lv_aload_n hx hb dX1_line_221 rfl (lv_at hl 0 rfl) ?_
        refine x1_g6 F C dX1_line_222 ?_
        refine lv_iload hx hb dX1_line_225 (lv_at hl 5 rfl) ?_
        obtain ⟨h_30, hw⟩ := hw
        refine x1_st11 F C h_30 dX1_line_227 (fun H locs s_31 es_31 C => ?_)
        have hw := hw s_31 es_31
        refine lv_aload_n hx hb dX1_line_228 rfl (lv_at hl 0 rfl) ?_
        refine lv_dup hx hb dX1_line_229 rfl ?_
        refine x1_g6 F C dX1_line_230 ?_
        refine lv_iconst (v := 1) hx hb dX1_line_233 (by decide) ?_
        refine lv_iadd hx hb dX1_line_234 ?_
        refine x1_p6 F C dX1_line_235 (fun H locs s_32 es_32 C => ?_)
        have hw := hw s_32 es_32
        refine lv_aload_n hx hb dX1_line_238 rfl (lv_at hl 0 rfl) ?_
        refine x1_g6 F C dX1_line_239 ?_
        refine lv_iconst (v := 1) hx hb dX1_line_242 (by decide) ?_
        refine lv_isub hx hb dX1_line_243 ?_
        exact x_iret F C hw dX1_line_244
      · have hw := hw.2 c_21
        refine lv_bipush (v := (-4)) hx hb dX1_line_173 (by decide) ?_
        exact x_iret F C hw dX1_line_175
    · have hw := hw.2 c_20
      refine lv_iload hx hb dX1_line_118 (lv_at hl 6 rfl) ?_
      refine lv_if_ne (tgt := 155) hx hb dX1_line_120 (by decide) (fun c_33 => ?_) (fun c_33 => ?_)
      · have hw := hw.2 c_33
        exact kX1_line_155  F hk109 x1 x2 x3 x4 x5 x7 st _ _ _ hw C (lv_sub hl [0, 1, 2, 3, 4, 5, 7] rfl)
      · have hw := hw.1 c_33
        refine lv_aload_n hx hb dX1_line_123 rfl (lv_at hl 0 rfl) ?_
        refine x1_g13 F C dX1_line_124 ?_
        refine lv_iload hx hb dX1_line_127 (lv_at hl 7 rfl) ?_
        obtain ⟨h_35, hw⟩ := hw
        refine x1_ld13 F C h_35 dX1_line_129 ?_
        refine lv_if_ne (tgt := 159) hx hb dX1_line_130 (by decide) (fun c_36 => ?_) (fun c_36 => ?_)
        · have hw := hw.2 c_36
          exact kX1_line_159  F hk109 x1 x2 x3 x4 x5 x7 st _ _ _ hw C (lv_sub hl [0, 1, 2, 3, 4, 5, 7] rfl)
        · have hw := hw.1 c_36
          refine lv_aload_n hx hb dX1_line_133 rfl (lv_at hl 0 rfl) ?_
          refine x1_g8 F C dX1_line_134 ?_
          refine lv_iload hx hb dX1_line_137 (lv_at hl 7 rfl) ?_
          obtain ⟨h_37, hw⟩ := hw
          refine x1_ld8 F C h_37 dX1_line_139 ?_
          refine lv_iload_n hx hb dX1_line_140 rfl (lv_at hl 2 rfl) ?_
          refine lv_icmp_ne (tgt := 159) hx hb dX1_line_141 (by decide) (fun c_38 => ?_) (fun c_38 => ?_)
          · have hw := hw.2 c_38
            exact kX1_line_159  F hk109 x1 x2 x3 x4 x5 x7 st _ _ _ hw C (lv_sub hl [0, 1, 2, 3, 4, 5, 7] rfl)
          · have hw := hw.1 c_38
            refine lv_aload_n hx hb dX1_line_144 rfl (lv_at hl 0 rfl) ?_
            refine x1_g9 F C dX1_line_145 ?_
            refine lv_iload hx hb dX1_line_148 (lv_at hl 7 rfl) ?_
            obtain ⟨h_39, hw⟩ := hw
            refine x1_ld9 F C h_39 dX1_line_150 ?_
            refine lv_iload_n hx hb dX1_line_151 rfl (lv_at hl 3 rfl) ?_
            refine lv_icmp_ne (tgt := 159) hx hb dX1_line_152 (by decide) (fun c_40 => ?_) (fun c_40 => ?_)
            · have hw := hw.2 c_40
              exact kX1_line_159  F hk109 x1 x2 x3 x4 x5 x7 st _ _ _ hw C (lv_sub hl [0, 1, 2, 3, 4, 5, 7] rfl)
            · have hw := hw.1 c_40
              exact kX1_line_155  F hk109 x1 x2 x3 x4 x5 x7 st _ _ _ hw C (lv_sub hl [0, 1, 2, 3, 4, 5, 7] rfl)
set_option maxHeartbeats 4000000 in
theorem kX1_line_104  {post : Int32 → CS → Prop}  (F : Fx p s m args meth c cX1_line 8 RX1 (some .int) D d E A) : ∀ (x1 : Int32) (x2 : Int32) (x3 : Int32) (x4 : Int32) (x5 : Int32) (y0 : Int32) (st : CS) (H : Heap) (locs : List Loc) (ls : Array Slot), wX1_line_104  post  x1 x2 x3 x4 x5 y0 st → Cx D (wM o ad d) A s st H locs → lv_has ls 8 [(0, .ref o), (1, .int x1), (2, .int x2), (3, .int x3), (4, .int x4), (5, .int x5)] → W p l e (headSpec (ws_ yX1_line cX1_line 8 (some .int)) rmX1_line).room s m args below meth c H locs 0 0 (QI below D d E (wM o ad d) A args s 0 0 post) (F0 m 104 ls [.int y0]) := by
  obtain ⟨hx, hb, hr, hml, hown, hts, hlk, hA, hK, hE⟩ := id F
  intro x1 x2 x3 x4 x5 y0 st H locs ls hw C hl
  unfold wX1_line_104 at hw
  refine lv_istore (lv' := [(6, .int y0), (0, .ref o), (1, .int x1), (2, .int x2), (3, .int x3), (4, .int x4), (5, .int x5)]) hx hb dX1_line_104 hl (by decide) rfl (fun ls hl => ?_)
  refine lv_iconst (v := 0) hx hb dX1_line_106 (by decide) ?_
  refine lv_istore (lv' := [(7, .int 0), (6, .int y0), (0, .ref o), (1, .int x1), (2, .int x2), (3, .int x3), (4, .int x4), (5, .int x5)]) hx hb dX1_line_107 hl (by decide) rfl (fun ls hl => ?_)
  obtain ⟨fu, hw⟩ := hw
  exact kX1_line_109  F  fu x1 x2 x3 x4 x5 y0 0 st _ _ _ hw C (lv_sub hl [2, 3, 4, 5, 6, 7, 1, 0] rfl)
set_option maxHeartbeats 4000000 in
theorem kX1_line_77  {post : Int32 → CS → Prop}  (F : Fx p s m args meth c cX1_line 8 RX1 (some .int) D d E A) : ∀ (x1 : Int32) (x2 : Int32) (x3 : Int32) (x4 : Int32) (x5 : Int32) (st : CS) (H : Heap) (locs : List Loc) (ls : Array Slot), wX1_line_77  post  x1 x2 x3 x4 x5 st → Cx D (wM o ad d) A s st H locs → lv_has ls 8 [(0, .ref o), (1, .int x1), (2, .int x2), (3, .int x3), (4, .int x4), (5, .int x5)] → W p l e (headSpec (ws_ yX1_line cX1_line 8 (some .int)) rmX1_line).room s m args below meth c H locs 0 0 (QI below D d E (wM o ad d) A args s 0 0 post) (F0 m 77 ls []) := by
  obtain ⟨hx, hb, hr, hml, hown, hts, hlk, hA, hK, hE⟩ := id F
  intro x1 x2 x3 x4 x5 st H locs ls hw C hl
  unfold wX1_line_77 at hw
  refine lv_aload_n hx hb dX1_line_77 rfl (lv_at hl 0 rfl) ?_
  refine x1_g6 F C dX1_line_78 ?_
  refine lv_bipush (v := 40) hx hb dX1_line_81 (by decide) ?_
  refine lv_icmp_ne (tgt := 89) hx hb dX1_line_83 (by decide) (fun c_16 => ?_) (fun c_16 => ?_)
  · have hw := hw.2 c_16
    refine lv_aload_n hx hb dX1_line_89 rfl (lv_at hl 0 rfl) ?_
    refine lv_iload_n hx hb dX1_line_90 rfl (lv_at hl 3 rfl) ?_
    refine lv_iconst (v := 1) hx hb dX1_line_91 (by decide) ?_
    refine x_callI (rest := []) (ci := 5) (q := (RX1, TX1, 55)) F C (ctX1_linesOf hE hw) (cwV 2 hts (lw_V q1054 q1056 qs39 q71 q1057) rfl rfl rfl (by decide +kernel) ⟨Nat.le_of_ble_eq_true rfl, Nat.le_of_ble_eq_true rfl⟩) rfl rfl rfl hl.1 rfl (Nat.le_of_ble_eq_true rfl) dX1_line_92 ⟨Nat.zero_le _, Nat.zero_le _⟩ (fun r_18 s_17 H locs hw C => ?_)
    refine lv_iconst (v := 2) hx hb dX1_line_95 (by decide) ?_
    refine lv_icmp_lt (tgt := 103) hx hb dX1_line_96 (by decide) (fun c_19 => ?_) (fun c_19 => ?_)
    · have hw := hw.1 c_19
      refine lv_iconst (v := 0) hx hb dX1_line_103 (by decide) ?_
      exact kX1_line_104  F  x1 x2 x3 x4 x5 0 s_17 _ _ _ hw C hl
    · have hw := hw.2 c_19
      refine lv_iconst (v := 1) hx hb dX1_line_99 (by decide) ?_
      refine lv_goto (tgt := 104) hx hb dX1_line_100 (by decide) ?_
      exact kX1_line_104  F  x1 x2 x3 x4 x5 1 s_17 _ _ _ hw C hl
  · have hw := hw.1 c_16
    refine lv_bipush (v := (-2)) hx hb dX1_line_86 (by decide) ?_
    exact x_iret F C hw dX1_line_88
set_option maxHeartbeats 4000000 in
theorem kX1_line_58  {post : Int32 → CS → Prop}  (F : Fx p s m args meth c cX1_line 8 RX1 (some .int) D d E A) : ∀ (x1 : Int32) (x2 : Int32) (x3 : Int32) (x4 : Int32) (x5 : Int32) (st : CS) (H : Heap) (locs : List Loc) (ls : Array Slot), wX1_line_58  post  x1 x2 x3 x4 x5 st → Cx D (wM o ad d) A s st H locs → lv_has ls 8 [(0, .ref o), (1, .int x1), (2, .int x2), (3, .int x3), (4, .int x4), (5, .int x5)] → W p l e (headSpec (ws_ yX1_line cX1_line 8 (some .int)) rmX1_line).room s m args below meth c H locs 0 0 (QI below D d E (wM o ad d) A args s 0 0 post) (F0 m 58 ls []) := by
  obtain ⟨hx, hb, hr, hml, hown, hts, hlk, hA, hK, hE⟩ := id F
  intro x1 x2 x3 x4 x5 st H locs ls hw C hl
  unfold wX1_line_58 at hw
  refine lv_iload_n hx hb dX1_line_58 rfl (lv_at hl 1 rfl) ?_
  refine lv_iconst (v := 1) hx hb dX1_line_59 (by decide) ?_
  refine lv_icmp_ne (tgt := 77) hx hb dX1_line_60 (by decide) (fun c_15 => ?_) (fun c_15 => ?_)
  · have hw := hw.2 c_15
    exact kX1_line_77  F  x1 x2 x3 x4 x5 st _ _ _ hw C hl
  · have hw := hw.1 c_15
    refine lv_iload hx hb dX1_line_63 (lv_at hl 5 rfl) ?_
    refine lv_iconst (v := 1) hx hb dX1_line_65 (by decide) ?_
    refine lv_sipush (v := 1000) hx hb dX1_line_66 (by decide) ?_
    refine x_callSI (rest := []) F C (ctX1_in hE hw) (va_cwS 3 hts (lw_S q1035 q1036 q71 q1037) rfl rfl rfl (by decide +kernel) ⟨Nat.le_of_ble_eq_true rfl, Nat.le_of_ble_eq_true rfl⟩) rfl hl.1 rfl (Nat.le_of_ble_eq_true rfl) dX1_line_69 ⟨Nat.zero_le _, Nat.zero_le _⟩ (fun r_42 s_41 H locs hw C => ?_)
    refine lv_if_ne (tgt := 77) hx hb dX1_line_72 (by decide) (fun c_43 => ?_) (fun c_43 => ?_)
    · have hw := hw.2 c_43
      exact kX1_line_77  F  x1 x2 x3 x4 x5 s_41 _ _ _ hw C hl
    · have hw := hw.1 c_43
      refine lv_iconst (v := (-1)) hx hb dX1_line_75 (by decide) ?_
      exact x_iret F C hw dX1_line_76
theorem ctX1_line (hE : Em E)  {post : Int32 → CS → Prop} {s0 : CS} {p0 p1 p2 p3 p4 : Int32} (hw : wpX1_line  post s0 p0 p1 p2 p3 p4) : CtI l yX1_line (ws_ yX1_line cX1_line 8 (some .int)) rmX1_line D d E (wM o ad d) 0 0 [.ref o, .int p0, .int p1, .int p2, .int p3, .int p4] s0 post := by
  refine CtI.of hE (by decide) rfl (Nat.le_of_ble_eq_true rfl) ?_
  intro p e s m below meth c A ls F C hl
  have hl : lv_has ls 8 [(0, .ref o), (1, .int p0), (2, .int p1), (3, .int p2), (4, .int p3), (5, .int p4)] := hl
  unfold wpX1_line at hw
  obtain ⟨hx, hb, hr, hml, hown, hts, hlk, hA, hK, -⟩ := id F
  refine lv_iload_n hx hb dX1_line_0 rfl (lv_at hl 1 rfl) ?_
  refine lv_iconst (v := 0) hx hb dX1_line_1 (by decide) ?_
  refine lv_iconst (v := 3) hx hb dX1_line_2 (by decide) ?_
  refine x_callSI (rest := []) F C (ctX1_in hE hw) (va_cwS 3 hts (lw_S q1035 q1036 q71 q1037) rfl rfl rfl (by decide +kernel) ⟨Nat.le_of_ble_eq_true rfl, Nat.le_of_ble_eq_true rfl⟩) rfl hl.1 rfl (Nat.le_of_ble_eq_true rfl) dX1_line_3 ⟨Nat.zero_le _, Nat.zero_le _⟩ (fun r_2 s_1 H locs hw C => ?_)
  refine lv_if_eq (tgt := 75) hx hb dX1_line_6 (by decide) (fun c_3 => ?_) (fun c_3 => ?_)
  · have hw := hw.1 c_3
    refine lv_iconst (v := (-1)) hx hb dX1_line_75 (by decide) ?_
    exact x_iret F C hw dX1_line_76
  · have hw := hw.2 c_3
    refine lv_iload_n hx hb dX1_line_9 rfl (lv_at hl 1 rfl) ?_
    refine lv_iconst (v := 2) hx hb dX1_line_10 (by decide) ?_
    refine lv_icmp_eq (tgt := 75) hx hb dX1_line_11 (by decide) (fun c_4 => ?_) (fun c_4 => ?_)
    · have hw := hw.1 c_4
      refine lv_iconst (v := (-1)) hx hb dX1_line_75 (by decide) ?_
      exact x_iret F C hw dX1_line_76
    · have hw := hw.2 c_4
      refine lv_aload_n hx hb dX1_line_14 rfl (lv_at hl 0 rfl) ?_
      refine lv_iload_n hx hb dX1_line_15 rfl (lv_at hl 2 rfl) ?_
      refine x_callI (rest := []) (ci := 5) (q := (RX1, TX1, 55)) F C (ctX1_isPerson hE hw) (cwV 1 hts (lw_V q1046 q1048 qs37 q71 q1049) rfl rfl rfl (by decide +kernel) ⟨Nat.le_of_ble_eq_true rfl, Nat.le_of_ble_eq_true rfl⟩) rfl rfl rfl hl.1 rfl (Nat.le_of_ble_eq_true rfl) dX1_line_16 ⟨Nat.zero_le _, Nat.zero_le _⟩ (fun r_6 s_5 H locs hw C => ?_)
      refine lv_if_eq (tgt := 75) hx hb dX1_line_19 (by decide) (fun c_7 => ?_) (fun c_7 => ?_)
      · have hw := hw.1 c_7
        refine lv_iconst (v := (-1)) hx hb dX1_line_75 (by decide) ?_
        exact x_iret F C hw dX1_line_76
      · have hw := hw.2 c_7
        refine lv_aload_n hx hb dX1_line_22 rfl (lv_at hl 0 rfl) ?_
        refine lv_iload_n hx hb dX1_line_23 rfl (lv_at hl 3 rfl) ?_
        refine x_callI (rest := []) (ci := 5) (q := (RX1, TX1, 55)) F C (ctX1_isPerson hE hw) (cwV 1 hts (lw_V q1046 q1048 qs37 q71 q1049) rfl rfl rfl (by decide +kernel) ⟨Nat.le_of_ble_eq_true rfl, Nat.le_of_ble_eq_true rfl⟩) rfl rfl rfl hl.1 rfl (Nat.le_of_ble_eq_true rfl) dX1_line_24 ⟨Nat.zero_le _, Nat.zero_le _⟩ (fun r_9 s_8 H locs hw C => ?_)
        refine lv_if_eq (tgt := 75) hx hb dX1_line_27 (by decide) (fun c_10 => ?_) (fun c_10 => ?_)
        · have hw := hw.1 c_10
          refine lv_iconst (v := (-1)) hx hb dX1_line_75 (by decide) ?_
          exact x_iret F C hw dX1_line_76
        · have hw := hw.2 c_10
          refine lv_aload_n hx hb dX1_line_30 rfl (lv_at hl 0 rfl) ?_
          refine x1_g4 F C dX1_line_31 ?_
          refine lv_iload_n hx hb dX1_line_34 rfl (lv_at hl 2 rfl) ?_
          obtain ⟨h_11, hw⟩ := hw
          refine x1_ld4 F C h_11 dX1_line_35 ?_
          refine lv_aload_n hx hb dX1_line_36 rfl (lv_at hl 0 rfl) ?_
          refine x1_g4 F C dX1_line_37 ?_
          refine lv_iload_n hx hb dX1_line_40 rfl (lv_at hl 3 rfl) ?_
          obtain ⟨h_12, hw⟩ := hw
          refine x1_ld4 F C h_12 dX1_line_41 ?_
          refine lv_icmp_ge (tgt := 75) hx hb dX1_line_42 (by decide) (fun c_13 => ?_) (fun c_13 => ?_)
          · have hw := hw.1 c_13
            refine lv_iconst (v := (-1)) hx hb dX1_line_75 (by decide) ?_
            exact x_iret F C hw dX1_line_76
          · have hw := hw.2 c_13
            refine lv_iload_n hx hb dX1_line_45 rfl (lv_at hl 1 rfl) ?_
            refine lv_iconst (v := 3) hx hb dX1_line_46 (by decide) ?_
            refine lv_icmp_ne (tgt := 58) hx hb dX1_line_47 (by decide) (fun c_14 => ?_) (fun c_14 => ?_)
            · have hw := hw.2 c_14
              exact kX1_line_58  F  p0 p1 p2 p3 p4 s_8 _ _ _ hw C hl
            · have hw := hw.1 c_14
              refine lv_iload hx hb dX1_line_50 (lv_at hl 4 rfl) ?_
              refine x_callSI (rest := []) F C (ctX1_isDay hE hw) (va_cwS 1 hts (lw_S q1038 q1039 q71 q1040) rfl rfl rfl (by decide +kernel) ⟨Nat.le_of_ble_eq_true rfl, Nat.le_of_ble_eq_true rfl⟩) rfl hl.1 rfl (Nat.le_of_ble_eq_true rfl) dX1_line_52 ⟨Nat.zero_le _, Nat.zero_le _⟩ (fun r_45 s_44 H locs hw C => ?_)
              refine lv_if_eq (tgt := 75) hx hb dX1_line_55 (by decide) (fun c_46 => ?_) (fun c_46 => ?_)
              · have hw := hw.1 c_46
                refine lv_iconst (v := (-1)) hx hb dX1_line_75 (by decide) ?_
                exact x_iret F C hw dX1_line_76
              · have hw := hw.2 c_46
                exact kX1_line_58  F  p0 p1 p2 p3 p4 s_44 _ _ _ hw C hl

abbrev rmX1_isLine : Room := { frames := 1, cells := 0, slots := 0, locals := 22 }
def wpX1_isLine  (post : Int32 → CS → Prop) (s0 : CS) (p0 : Int32) : Prop := (wpX1_in (fun r_2 s_1 => (zb r_2 ∧ post r_2 s_1)) s0 p0 0 ((sI s0 6) - 1))
theorem ctX1_isLine (hE : Em E)  {post : Int32 → CS → Prop} {s0 : CS} {p0 : Int32} (hw : wpX1_isLine  post s0 p0) : CtI l yX1_isLine (ws_ yX1_isLine cX1_isLine 2 (some .boolean)) rmX1_isLine D d E (wM o ad d) 0 0 [.ref o, .int p0] s0 post := by
  refine CtI.of hE (by decide) rfl (Nat.le_of_ble_eq_true rfl) ?_
  intro p e s m below meth c A ls F C hl
  have hl : lv_has ls 2 [(0, .ref o), (1, .int p0)] := hl
  unfold wpX1_isLine at hw
  obtain ⟨hx, hb, hr, hml, hown, hts, hlk, hA, hK, -⟩ := id F
  refine lv_iload_n hx hb dX1_isLine_0 rfl (lv_at hl 1 rfl) ?_
  refine lv_iconst (v := 0) hx hb dX1_isLine_1 (by decide) ?_
  refine lv_aload_n hx hb dX1_isLine_2 rfl (lv_at hl 0 rfl) ?_
  refine x1_g6 F C dX1_isLine_3 ?_
  refine lv_iconst (v := 1) hx hb dX1_isLine_6 (by decide) ?_
  refine lv_isub hx hb dX1_isLine_7 ?_
  refine x_callSI (rest := []) F C (ctX1_in hE hw) (va_cwS 3 hts (lw_S q1035 q1036 q71 q1037) rfl rfl rfl (by decide +kernel) ⟨Nat.le_of_ble_eq_true rfl, Nat.le_of_ble_eq_true rfl⟩) rfl hl.1 rfl (Nat.le_of_ble_eq_true rfl) dX1_isLine_8 ⟨Nat.zero_le _, Nat.zero_le _⟩ (fun r_2 s_1 H locs hw C => ?_)
  exact x_zret F C hw.1 hw.2 dX1_isLine_11

abbrev rmX1_tellsLine : Room := { frames := 0, cells := 0, slots := 0, locals := 0 }
def wpX1_tellsLine  (post : Int32 → CS → Prop) (s0 : CS) (p0 : Int32) (p1 : Int32) : Prop := ((p1 = 0 → (vp_in p0 40 ∧ (post (sA s0 7 p0.toNatClampNeg) s0))) ∧ (¬ p1 = 0 → ((p1 = 1 → (vp_in p0 40 ∧ (post (sA s0 8 p0.toNatClampNeg) s0))) ∧ (¬ p1 = 1 → ((p1 = 2 → (vp_in p0 40 ∧ (post (sA s0 9 p0.toNatClampNeg) s0))) ∧ (¬ p1 = 2 → (vp_in p0 40 ∧ (((sA s0 13 p0.toNatClampNeg) = 0 → (post 0 s0)) ∧ (¬ (sA s0 13 p0.toNatClampNeg) = 0 → (post 1 s0))))))))))
theorem ctX1_tellsLine (hE : Em E)  {post : Int32 → CS → Prop} {s0 : CS} {p0 p1 : Int32} (hw : wpX1_tellsLine  post s0 p0 p1) : CtI l yX1_tellsLine (ws_ yX1_tellsLine cX1_tellsLine 3 (some .int)) rmX1_tellsLine D d E (wM o ad d) 0 0 [.ref o, .int p0, .int p1] s0 post := by
  refine CtI.of hE (by decide) rfl (Nat.le_of_ble_eq_true rfl) ?_
  intro p e s m below meth c A ls F C hl
  have hl : lv_has ls 3 [(0, .ref o), (1, .int p0), (2, .int p1)] := hl
  unfold wpX1_tellsLine at hw
  obtain ⟨hx, hb, hr, hml, hown, hts, hlk, hA, hK, -⟩ := id F
  refine lv_iload_n hx hb dX1_tellsLine_0 rfl (lv_at hl 2 rfl) ?_
  refine lv_if_ne (tgt := 13) hx hb dX1_tellsLine_1 (by decide) (fun c_1 => ?_) (fun c_1 => ?_)
  · have hw := hw.2 c_1
    refine lv_iload_n hx hb dX1_tellsLine_13 rfl (lv_at hl 2 rfl) ?_
    refine lv_iconst (v := 1) hx hb dX1_tellsLine_14 (by decide) ?_
    refine lv_icmp_ne (tgt := 27) hx hb dX1_tellsLine_15 (by decide) (fun c_2 => ?_) (fun c_2 => ?_)
    · have hw := hw.2 c_2
      refine lv_iload_n hx hb dX1_tellsLine_27 rfl (lv_at hl 2 rfl) ?_
      refine lv_iconst (v := 2) hx hb dX1_tellsLine_28 (by decide) ?_
      refine lv_icmp_ne (tgt := 41) hx hb dX1_tellsLine_29 (by decide) (fun c_3 => ?_) (fun c_3 => ?_)
      · have hw := hw.2 c_3
        refine lv_aload_n hx hb dX1_tellsLine_41 rfl (lv_at hl 0 rfl) ?_
        refine x1_g13 F C dX1_tellsLine_42 ?_
        refine lv_iload_n hx hb dX1_tellsLine_45 rfl (lv_at hl 1 rfl) ?_
        obtain ⟨h_4, hw⟩ := hw
        refine x1_ld13 F C h_4 dX1_tellsLine_46 ?_
        refine lv_if_eq (tgt := 54) hx hb dX1_tellsLine_47 (by decide) (fun c_5 => ?_) (fun c_5 => ?_)
        · have hw := hw.1 c_5
          refine lv_iconst (v := 0) hx hb dX1_tellsLine_54 (by decide) ?_
          exact x_iret F C hw dX1_tellsLine_55
        · have hw := hw.2 c_5
          refine lv_iconst (v := 1) hx hb dX1_tellsLine_50 (by decide) ?_
          refine lv_goto (tgt := 55) hx hb dX1_tellsLine_51 (by decide) ?_
          exact x_iret F C hw dX1_tellsLine_55
      · have hw := hw.1 c_3
        refine lv_aload_n hx hb dX1_tellsLine_32 rfl (lv_at hl 0 rfl) ?_
        refine x1_g9 F C dX1_tellsLine_33 ?_
        refine lv_iload_n hx hb dX1_tellsLine_36 rfl (lv_at hl 1 rfl) ?_
        obtain ⟨h_6, hw⟩ := hw
        refine x1_ld9 F C h_6 dX1_tellsLine_37 ?_
        refine lv_goto (tgt := 55) hx hb dX1_tellsLine_38 (by decide) ?_
        exact x_iret F C hw dX1_tellsLine_55
    · have hw := hw.1 c_2
      refine lv_aload_n hx hb dX1_tellsLine_18 rfl (lv_at hl 0 rfl) ?_
      refine x1_g8 F C dX1_tellsLine_19 ?_
      refine lv_iload_n hx hb dX1_tellsLine_22 rfl (lv_at hl 1 rfl) ?_
      obtain ⟨h_7, hw⟩ := hw
      refine x1_ld8 F C h_7 dX1_tellsLine_23 ?_
      refine lv_goto (tgt := 55) hx hb dX1_tellsLine_24 (by decide) ?_
      exact x_iret F C hw dX1_tellsLine_55
  · have hw := hw.1 c_1
    refine lv_aload_n hx hb dX1_tellsLine_4 rfl (lv_at hl 0 rfl) ?_
    refine x1_g7 F C dX1_tellsLine_5 ?_
    refine lv_iload_n hx hb dX1_tellsLine_8 rfl (lv_at hl 1 rfl) ?_
    obtain ⟨h_8, hw⟩ := hw
    refine x1_ld7 F C h_8 dX1_tellsLine_9 ?_
    refine lv_goto (tgt := 55) hx hb dX1_tellsLine_10 (by decide) ?_
    exact x_iret F C hw dX1_tellsLine_55

abbrev rmX1_lineTold : Room := { frames := 2, cells := 0, slots := 0, locals := 43 }
def wX1_lineTold_26  (post : Int32 → CS → Prop)   (st : CS) : Prop := (post (-1) st)
def wpX1_lineTold  (post : Int32 → CS → Prop) (s0 : CS) (p0 : Int32) (p1 : Int32) : Prop := (wpX1_isLine (fun r_2 s_1 => ((r_2 = 0 → (wX1_lineTold_26  post  s_1)) ∧ (¬ r_2 = 0 → (wpX1_in (fun r_5 s_4 => ((r_5 = 0 → (wX1_lineTold_26  post  s_4)) ∧ (¬ r_5 = 0 → (wpX1_tellsLine (fun r_8 s_7 => (post r_8 s_7)) s_4 p0 p1)))) s_1 p1 0 3)))) s0 p0)
set_option maxHeartbeats 4000000 in
theorem kX1_lineTold_26  {post : Int32 → CS → Prop}  (F : Fx p s m args meth c cX1_lineTold 3 RX1 (some .int) D d E A) : ∀  (st : CS) (H : Heap) (locs : List Loc) (ls : Array Slot), wX1_lineTold_26  post  st → Cx D (wM o ad d) A s st H locs → lv_has ls 3 [] → W p l e (headSpec (ws_ yX1_lineTold cX1_lineTold 3 (some .int)) rmX1_lineTold).room s m args below meth c H locs 0 0 (QI below D d E (wM o ad d) A args s 0 0 post) (F0 m 26 ls []) := by
  obtain ⟨hx, hb, hr, hml, hown, hts, hlk, hA, hK, hE⟩ := id F
  intro st H locs ls hw C hl
  unfold wX1_lineTold_26 at hw
  refine lv_iconst (v := (-1)) hx hb dX1_lineTold_26 (by decide) ?_
  exact x_iret F C hw dX1_lineTold_27
theorem ctX1_lineTold (hE : Em E)  {post : Int32 → CS → Prop} {s0 : CS} {p0 p1 : Int32} (hw : wpX1_lineTold  post s0 p0 p1) : CtI l yX1_lineTold (ws_ yX1_lineTold cX1_lineTold 3 (some .int)) rmX1_lineTold D d E (wM o ad d) 0 0 [.ref o, .int p0, .int p1] s0 post := by
  refine CtI.of hE (by decide) rfl (Nat.le_of_ble_eq_true rfl) ?_
  intro p e s m below meth c A ls F C hl
  have hl : lv_has ls 3 [(0, .ref o), (1, .int p0), (2, .int p1)] := hl
  unfold wpX1_lineTold at hw
  obtain ⟨hx, hb, hr, hml, hown, hts, hlk, hA, hK, -⟩ := id F
  refine lv_aload_n hx hb dX1_lineTold_0 rfl (lv_at hl 0 rfl) ?_
  refine lv_iload_n hx hb dX1_lineTold_1 rfl (lv_at hl 1 rfl) ?_
  refine x_callI (rest := []) (ci := 5) (q := (RX1, TX1, 55)) F C (ctX1_isLine hE hw) (cwV 1 hts (lw_V q1070 q1072 qs40 q71 q1073) rfl rfl rfl (by decide +kernel) ⟨Nat.le_of_ble_eq_true rfl, Nat.le_of_ble_eq_true rfl⟩) rfl rfl rfl hl.1 rfl (Nat.le_of_ble_eq_true rfl) dX1_lineTold_2 ⟨Nat.zero_le _, Nat.zero_le _⟩ (fun r_2 s_1 H locs hw C => ?_)
  refine lv_if_eq (tgt := 26) hx hb dX1_lineTold_5 (by decide) (fun c_3 => ?_) (fun c_3 => ?_)
  · have hw := hw.1 c_3
    exact kX1_lineTold_26  F  s_1 _ _ _ hw C (lv_sub hl [] rfl)
  · have hw := hw.2 c_3
    refine lv_iload_n hx hb dX1_lineTold_8 rfl (lv_at hl 2 rfl) ?_
    refine lv_iconst (v := 0) hx hb dX1_lineTold_9 (by decide) ?_
    refine lv_iconst (v := 3) hx hb dX1_lineTold_10 (by decide) ?_
    refine x_callSI (rest := []) F C (ctX1_in hE hw) (va_cwS 3 hts (lw_S q1035 q1036 q71 q1037) rfl rfl rfl (by decide +kernel) ⟨Nat.le_of_ble_eq_true rfl, Nat.le_of_ble_eq_true rfl⟩) rfl hl.1 rfl (Nat.le_of_ble_eq_true rfl) dX1_lineTold_11 ⟨Nat.zero_le _, Nat.zero_le _⟩ (fun r_5 s_4 H locs hw C => ?_)
    refine lv_if_eq (tgt := 26) hx hb dX1_lineTold_14 (by decide) (fun c_6 => ?_) (fun c_6 => ?_)
    · have hw := hw.1 c_6
      exact kX1_lineTold_26  F  s_4 _ _ _ hw C (lv_sub hl [] rfl)
    · have hw := hw.2 c_6
      refine lv_aload_n hx hb dX1_lineTold_17 rfl (lv_at hl 0 rfl) ?_
      refine lv_iload_n hx hb dX1_lineTold_18 rfl (lv_at hl 1 rfl) ?_
      refine lv_iload_n hx hb dX1_lineTold_19 rfl (lv_at hl 2 rfl) ?_
      refine x_callI (rest := []) (ci := 5) (q := (RX1, TX1, 55)) F C (ctX1_tellsLine hE hw) (cwV 2 hts (lw_V q1074 q1076 qs41 q71 q1077) rfl rfl rfl (by decide +kernel) ⟨Nat.le_of_ble_eq_true rfl, Nat.le_of_ble_eq_true rfl⟩) rfl rfl rfl hl.1 rfl (Nat.le_of_ble_eq_true rfl) dX1_lineTold_20 ⟨Nat.zero_le _, Nat.zero_le _⟩ (fun r_8 s_7 H locs hw C => ?_)
      refine lv_goto (tgt := 27) hx hb dX1_lineTold_23 (by decide) ?_
      exact x_iret F C hw dX1_lineTold_27

abbrev rmX1_meets : Room := { frames := 0, cells := 0, slots := 0, locals := 0 }
def wpX1_meets  (post : Int32 → CS → Prop) (s0 : CS) (p0 : Int32) : Prop := (∀ s_1 : CS, s_1 = uI s0 0 p0 → (vp_in p0 6 ∧ (vp_in p0 6 ∧ ∀ s_4 : CS, s_4 = uA s_1 1 p0.toNatClampNeg ((sA s_1 1 p0.toNatClampNeg) + 1) → (post (-3) s_4))))
theorem ctX1_meets (hE : Em E)  {post : Int32 → CS → Prop} {s0 : CS} {p0 : Int32} (hw : wpX1_meets  post s0 p0) : CtI l yX1_meets (ws_ yX1_meets cX1_meets 2 (some .int)) rmX1_meets D d E (wM o ad d) 0 0 [.ref o, .int p0] s0 post := by
  refine CtI.of hE (by decide) rfl (Nat.le_of_ble_eq_true rfl) ?_
  intro p e s m below meth c A ls F C hl
  have hl : lv_has ls 2 [(0, .ref o), (1, .int p0)] := hl
  unfold wpX1_meets at hw
  obtain ⟨hx, hb, hr, hml, hown, hts, hlk, hA, hK, -⟩ := id F
  refine lv_aload_n hx hb dX1_meets_0 rfl (lv_at hl 0 rfl) ?_
  refine lv_iload_n hx hb dX1_meets_1 rfl (lv_at hl 1 rfl) ?_
  refine x1_p0 F C dX1_meets_2 (fun H locs s_1 es_1 C => ?_)
  have hw := hw s_1 es_1
  refine lv_aload_n hx hb dX1_meets_5 rfl (lv_at hl 0 rfl) ?_
  refine x1_g1 F C dX1_meets_6 ?_
  refine lv_iload_n hx hb dX1_meets_9 rfl (lv_at hl 1 rfl) ?_
  refine lv_dup2_11 hx hb dX1_meets_10 rfl rfl ?_
  obtain ⟨h_2, hw⟩ := hw
  refine x1_ld1 F C h_2 dX1_meets_11 ?_
  refine lv_iconst (v := 1) hx hb dX1_meets_12 (by decide) ?_
  refine lv_iadd hx hb dX1_meets_13 ?_
  obtain ⟨h_3, hw⟩ := hw
  refine x1_st1 F C h_3 dX1_meets_14 (fun H locs s_4 es_4 C => ?_)
  have hw := hw s_4 es_4
  refine lv_bipush (v := (-3)) hx hb dX1_meets_15 (by decide) ?_
  exact x_iret F C hw dX1_meets_17

abbrev rmX1_mark : Room := { frames := 2, cells := 0, slots := 0, locals := 43 }
def wX1_mark_47  (post : Int32 → CS → Prop)  (x1 : Int32) (x2 : Int32) (st : CS) : Prop := ((x2 = 1 → (vp_in x1 40 ∧ (post (sA st 11 x1.toNatClampNeg) st))) ∧ (¬ x2 = 1 → ((x2 = 2 → (vp_in x1 40 ∧ (post (sA st 12 x1.toNatClampNeg) st))) ∧ (¬ x2 = 2 → (vp_in x1 40 ∧ (post (sA st 10 x1.toNatClampNeg) st))))))
def wX1_mark_41  (post : Int32 → CS → Prop)   (st : CS) : Prop := (wpX1_meets (fun r_17 s_16 => (post r_17 s_16)) st 3)
def wpX1_mark  (post : Int32 → CS → Prop) (s0 : CS) (p0 : Int32) (p1 : Int32) : Prop := (wpX1_isLine (fun r_2 s_1 => ((r_2 = 0 → (post (-1) s_1)) ∧ (¬ r_2 = 0 → (wpX1_in (fun r_5 s_4 => ((r_5 = 0 → (post (-1) s_4)) ∧ (¬ r_5 = 0 → (vp_in p0 40 ∧ (∀ x3_8 : Int32, x3_8 = (sA s_4 7 p0.toNatClampNeg) → ((p1 = x3_8 → (wX1_mark_47  post  p0 p1 s_4)) ∧ (¬ p1 = x3_8 → ((p1 = 1 → ((x3_8 = 2 → (wX1_mark_47  post  p0 p1 s_4)) ∧ (¬ x3_8 = 2 → (wX1_mark_41  post  s_4)))) ∧ (¬ p1 = 1 → (wX1_mark_41  post  s_4)))))))))) s_1 p1 1 3)))) s0 p0)
set_option maxHeartbeats 4000000 in
theorem kX1_mark_47  {post : Int32 → CS → Prop}  (F : Fx p s m args meth c cX1_mark 4 RX1 (some .int) D d E A) : ∀ (x1 : Int32) (x2 : Int32) (st : CS) (H : Heap) (locs : List Loc) (ls : Array Slot), wX1_mark_47  post  x1 x2 st → Cx D (wM o ad d) A s st H locs → lv_has ls 4 [(0, .ref o), (1, .int x1), (2, .int x2)] → W p l e (headSpec (ws_ yX1_mark cX1_mark 4 (some .int)) rmX1_mark).room s m args below meth c H locs 0 0 (QI below D d E (wM o ad d) A args s 0 0 post) (F0 m 47 ls []) := by
  obtain ⟨hx, hb, hr, hml, hown, hts, hlk, hA, hK, hE⟩ := id F
  intro x1 x2 st H locs ls hw C hl
  unfold wX1_mark_47 at hw
  refine lv_iload_n hx hb dX1_mark_47 rfl (lv_at hl 2 rfl) ?_
  refine lv_iconst (v := 1) hx hb dX1_mark_48 (by decide) ?_
  refine lv_icmp_ne (tgt := 61) hx hb dX1_mark_49 (by decide) (fun c_10 => ?_) (fun c_10 => ?_)
  · have hw := hw.2 c_10
    refine lv_iload_n hx hb dX1_mark_61 rfl (lv_at hl 2 rfl) ?_
    refine lv_iconst (v := 2) hx hb dX1_mark_62 (by decide) ?_
    refine lv_icmp_ne (tgt := 75) hx hb dX1_mark_63 (by decide) (fun c_11 => ?_) (fun c_11 => ?_)
    · have hw := hw.2 c_11
      refine lv_aload_n hx hb dX1_mark_75 rfl (lv_at hl 0 rfl) ?_
      refine x1_g10 F C dX1_mark_76 ?_
      refine lv_iload_n hx hb dX1_mark_79 rfl (lv_at hl 1 rfl) ?_
      obtain ⟨h_12, hw⟩ := hw
      refine x1_ld10 F C h_12 dX1_mark_80 ?_
      exact x_iret F C hw dX1_mark_81
    · have hw := hw.1 c_11
      refine lv_aload_n hx hb dX1_mark_66 rfl (lv_at hl 0 rfl) ?_
      refine x1_g12 F C dX1_mark_67 ?_
      refine lv_iload_n hx hb dX1_mark_70 rfl (lv_at hl 1 rfl) ?_
      obtain ⟨h_13, hw⟩ := hw
      refine x1_ld12 F C h_13 dX1_mark_71 ?_
      refine lv_goto (tgt := 81) hx hb dX1_mark_72 (by decide) ?_
      exact x_iret F C hw dX1_mark_81
  · have hw := hw.1 c_10
    refine lv_aload_n hx hb dX1_mark_52 rfl (lv_at hl 0 rfl) ?_
    refine x1_g11 F C dX1_mark_53 ?_
    refine lv_iload_n hx hb dX1_mark_56 rfl (lv_at hl 1 rfl) ?_
    obtain ⟨h_14, hw⟩ := hw
    refine x1_ld11 F C h_14 dX1_mark_57 ?_
    refine lv_goto (tgt := 81) hx hb dX1_mark_58 (by decide) ?_
    exact x_iret F C hw dX1_mark_81
set_option maxHeartbeats 4000000 in
theorem kX1_mark_41  {post : Int32 → CS → Prop}  (F : Fx p s m args meth c cX1_mark 4 RX1 (some .int) D d E A) : ∀  (st : CS) (H : Heap) (locs : List Loc) (ls : Array Slot), wX1_mark_41  post  st → Cx D (wM o ad d) A s st H locs → lv_has ls 4 [(0, .ref o)] → W p l e (headSpec (ws_ yX1_mark cX1_mark 4 (some .int)) rmX1_mark).room s m args below meth c H locs 0 0 (QI below D d E (wM o ad d) A args s 0 0 post) (F0 m 41 ls []) := by
  obtain ⟨hx, hb, hr, hml, hown, hts, hlk, hA, hK, hE⟩ := id F
  intro st H locs ls hw C hl
  unfold wX1_mark_41 at hw
  refine lv_aload_n hx hb dX1_mark_41 rfl (lv_at hl 0 rfl) ?_
  refine lv_iconst (v := 3) hx hb dX1_mark_42 (by decide) ?_
  refine x_callI (rest := []) (ci := 5) (q := (RX1, TX1, 55)) F C (ctX1_meets hE hw) (cwV 1 hts (lw_V q1082 q1084 qs42 q71 q1085) rfl rfl rfl (by decide +kernel) ⟨Nat.le_of_ble_eq_true rfl, Nat.le_of_ble_eq_true rfl⟩) rfl rfl rfl hl.1 rfl (Nat.le_of_ble_eq_true rfl) dX1_mark_43 ⟨Nat.zero_le _, Nat.zero_le _⟩ (fun r_17 s_16 H locs hw C => ?_)
  exact x_iret F C hw dX1_mark_46
theorem ctX1_mark (hE : Em E)  {post : Int32 → CS → Prop} {s0 : CS} {p0 p1 : Int32} (hw : wpX1_mark  post s0 p0 p1) : CtI l yX1_mark (ws_ yX1_mark cX1_mark 4 (some .int)) rmX1_mark D d E (wM o ad d) 0 0 [.ref o, .int p0, .int p1] s0 post := by
  refine CtI.of hE (by decide) rfl (Nat.le_of_ble_eq_true rfl) ?_
  intro p e s m below meth c A ls F C hl
  have hl : lv_has ls 4 [(0, .ref o), (1, .int p0), (2, .int p1)] := hl
  unfold wpX1_mark at hw
  obtain ⟨hx, hb, hr, hml, hown, hts, hlk, hA, hK, -⟩ := id F
  refine lv_aload_n hx hb dX1_mark_0 rfl (lv_at hl 0 rfl) ?_
  refine lv_iload_n hx hb dX1_mark_1 rfl (lv_at hl 1 rfl) ?_
  refine x_callI (rest := []) (ci := 5) (q := (RX1, TX1, 55)) F C (ctX1_isLine hE hw) (cwV 1 hts (lw_V q1070 q1072 qs40 q71 q1073) rfl rfl rfl (by decide +kernel) ⟨Nat.le_of_ble_eq_true rfl, Nat.le_of_ble_eq_true rfl⟩) rfl rfl rfl hl.1 rfl (Nat.le_of_ble_eq_true rfl) dX1_mark_2 ⟨Nat.zero_le _, Nat.zero_le _⟩ (fun r_2 s_1 H locs hw C => ?_)
  refine lv_if_eq (tgt := 17) hx hb dX1_mark_5 (by decide) (fun c_3 => ?_) (fun c_3 => ?_)
  · have hw := hw.1 c_3
    refine lv_iconst (v := (-1)) hx hb dX1_mark_17 (by decide) ?_
    exact x_iret F C hw dX1_mark_18
  · have hw := hw.2 c_3
    refine lv_iload_n hx hb dX1_mark_8 rfl (lv_at hl 2 rfl) ?_
    refine lv_iconst (v := 1) hx hb dX1_mark_9 (by decide) ?_
    refine lv_iconst (v := 3) hx hb dX1_mark_10 (by decide) ?_
    refine x_callSI (rest := []) F C (ctX1_in hE hw) (va_cwS 3 hts (lw_S q1035 q1036 q71 q1037) rfl rfl rfl (by decide +kernel) ⟨Nat.le_of_ble_eq_true rfl, Nat.le_of_ble_eq_true rfl⟩) rfl hl.1 rfl (Nat.le_of_ble_eq_true rfl) dX1_mark_11 ⟨Nat.zero_le _, Nat.zero_le _⟩ (fun r_5 s_4 H locs hw C => ?_)
    refine lv_if_ne (tgt := 19) hx hb dX1_mark_14 (by decide) (fun c_6 => ?_) (fun c_6 => ?_)
    · have hw := hw.2 c_6
      refine lv_aload_n hx hb dX1_mark_19 rfl (lv_at hl 0 rfl) ?_
      refine x1_g7 F C dX1_mark_20 ?_
      refine lv_iload_n hx hb dX1_mark_23 rfl (lv_at hl 1 rfl) ?_
      obtain ⟨h_7, hw⟩ := hw
      refine x1_ld7 F C h_7 dX1_mark_24 ?_
      refine lv_topi (fun x3_8 ex3_8 => ?_)
      have hw := hw x3_8 ex3_8
      refine lv_istore_n (lv' := [(3, .int x3_8), (0, .ref o), (1, .int p0), (2, .int p1)]) hx hb dX1_mark_25 rfl hl (by decide) rfl (fun ls hl => ?_)
      refine lv_iload_n hx hb dX1_mark_26 rfl (lv_at hl 3 rfl) ?_
      refine lv_iload_n hx hb dX1_mark_27 rfl (lv_at hl 0 rfl) ?_
      refine lv_icmp_eq (tgt := 47) hx hb dX1_mark_28 (by decide) (fun c_9 => ?_) (fun c_9 => ?_)
      · have hw := hw.1 c_9
        exact kX1_mark_47  F  p0 p1 s_4 _ _ _ hw C (lv_sub hl [1, 2, 3] rfl)
      · have hw := hw.2 c_9
        refine lv_iload_n hx hb dX1_mark_31 rfl (lv_at hl 3 rfl) ?_
        refine lv_iconst (v := 1) hx hb dX1_mark_32 (by decide) ?_
        refine lv_icmp_ne (tgt := 41) hx hb dX1_mark_33 (by decide) (fun c_15 => ?_) (fun c_15 => ?_)
        · have hw := hw.2 c_15
          exact kX1_mark_41  F  s_4 _ _ _ hw C (lv_sub hl [1] rfl)
        · have hw := hw.1 c_15
          refine lv_iload_n hx hb dX1_mark_36 rfl (lv_at hl 0 rfl) ?_
          refine lv_iconst (v := 2) hx hb dX1_mark_37 (by decide) ?_
          refine lv_icmp_eq (tgt := 47) hx hb dX1_mark_38 (by decide) (fun c_18 => ?_) (fun c_18 => ?_)
          · have hw := hw.1 c_18
            exact kX1_mark_47  F  p0 p1 s_4 _ _ _ hw C (lv_sub hl [1, 2, 3] rfl)
          · have hw := hw.2 c_18
            exact kX1_mark_41  F  s_4 _ _ _ hw C (lv_sub hl [1] rfl)
    · have hw := hw.1 c_6
      refine lv_iconst (v := (-1)) hx hb dX1_mark_17 (by decide) ?_
      exact x_iret F C hw dX1_mark_18

abbrev rmX1_prove : Room := { frames := 2, cells := 0, slots := 0, locals := 43 }
def wpX1_prove  (post : Int32 → CS → Prop) (s0 : CS) (p0 : Int32) (p1 : Int32) : Prop := (wpX1_isLine (fun r_2 s_1 => ((r_2 = 0 → (post (-1) s_1)) ∧ (¬ r_2 = 0 → (wpX1_isDay (fun r_5 s_4 => ((r_5 = 0 → (post (-1) s_4)) ∧ (¬ r_5 = 0 → (vp_in p0 40 ∧ (((sA s_4 13 p0.toNatClampNeg) = 0 → (vp_in p0 40 ∧ (((sA s_4 7 p0.toNatClampNeg) = 1 → (vp_in p0 40 ∧ ∀ s_12 : CS, s_12 = uA s_4 7 p0.toNatClampNeg 2 → (vp_in p0 40 ∧ ∀ s_14 : CS, s_14 = uA s_12 12 p0.toNatClampNeg p1 → (post 1 s_14)))) ∧ (¬ (sA s_4 7 p0.toNatClampNeg) = 1 → (wpX1_meets (fun r_16 s_15 => (post r_16 s_15)) s_4 3))))) ∧ (¬ (sA s_4 13 p0.toNatClampNeg) = 0 → (post (-4) s_4))))))) s_1 p1)))) s0 p0)
theorem ctX1_prove (hE : Em E)  {post : Int32 → CS → Prop} {s0 : CS} {p0 p1 : Int32} (hw : wpX1_prove  post s0 p0 p1) : CtI l yX1_prove (ws_ yX1_prove cX1_prove 3 (some .int)) rmX1_prove D d E (wM o ad d) 0 0 [.ref o, .int p0, .int p1] s0 post := by
  refine CtI.of hE (by decide) rfl (Nat.le_of_ble_eq_true rfl) ?_
  intro p e s m below meth c A ls F C hl
  have hl : lv_has ls 3 [(0, .ref o), (1, .int p0), (2, .int p1)] := hl
  unfold wpX1_prove at hw
  obtain ⟨hx, hb, hr, hml, hown, hts, hlk, hA, hK, -⟩ := id F
  refine lv_aload_n hx hb dX1_prove_0 rfl (lv_at hl 0 rfl) ?_
  refine lv_iload_n hx hb dX1_prove_1 rfl (lv_at hl 1 rfl) ?_
  refine x_callI (rest := []) (ci := 5) (q := (RX1, TX1, 55)) F C (ctX1_isLine hE hw) (cwV 1 hts (lw_V q1070 q1072 qs40 q71 q1073) rfl rfl rfl (by decide +kernel) ⟨Nat.le_of_ble_eq_true rfl, Nat.le_of_ble_eq_true rfl⟩) rfl rfl rfl hl.1 rfl (Nat.le_of_ble_eq_true rfl) dX1_prove_2 ⟨Nat.zero_le _, Nat.zero_le _⟩ (fun r_2 s_1 H locs hw C => ?_)
  refine lv_if_eq (tgt := 15) hx hb dX1_prove_5 (by decide) (fun c_3 => ?_) (fun c_3 => ?_)
  · have hw := hw.1 c_3
    refine lv_iconst (v := (-1)) hx hb dX1_prove_15 (by decide) ?_
    exact x_iret F C hw dX1_prove_16
  · have hw := hw.2 c_3
    refine lv_iload_n hx hb dX1_prove_8 rfl (lv_at hl 2 rfl) ?_
    refine x_callSI (rest := []) F C (ctX1_isDay hE hw) (va_cwS 1 hts (lw_S q1038 q1039 q71 q1040) rfl rfl rfl (by decide +kernel) ⟨Nat.le_of_ble_eq_true rfl, Nat.le_of_ble_eq_true rfl⟩) rfl hl.1 rfl (Nat.le_of_ble_eq_true rfl) dX1_prove_9 ⟨Nat.zero_le _, Nat.zero_le _⟩ (fun r_5 s_4 H locs hw C => ?_)
    refine lv_if_ne (tgt := 17) hx hb dX1_prove_12 (by decide) (fun c_6 => ?_) (fun c_6 => ?_)
    · have hw := hw.2 c_6
      refine lv_aload_n hx hb dX1_prove_17 rfl (lv_at hl 0 rfl) ?_
      refine x1_g13 F C dX1_prove_18 ?_
      refine lv_iload_n hx hb dX1_prove_21 rfl (lv_at hl 1 rfl) ?_
      obtain ⟨h_7, hw⟩ := hw
      refine x1_ld13 F C h_7 dX1_prove_22 ?_
      refine lv_if_eq (tgt := 29) hx hb dX1_prove_23 (by decide) (fun c_8 => ?_) (fun c_8 => ?_)
      · have hw := hw.1 c_8
        refine lv_aload_n hx hb dX1_prove_29 rfl (lv_at hl 0 rfl) ?_
        refine x1_g7 F C dX1_prove_30 ?_
        refine lv_iload_n hx hb dX1_prove_33 rfl (lv_at hl 1 rfl) ?_
        obtain ⟨h_9, hw⟩ := hw
        refine x1_ld7 F C h_9 dX1_prove_34 ?_
        refine lv_iconst (v := 1) hx hb dX1_prove_35 (by decide) ?_
        refine lv_icmp_eq (tgt := 45) hx hb dX1_prove_36 (by decide) (fun c_10 => ?_) (fun c_10 => ?_)
        · have hw := hw.1 c_10
          refine lv_aload_n hx hb dX1_prove_45 rfl (lv_at hl 0 rfl) ?_
          refine x1_g7 F C dX1_prove_46 ?_
          refine lv_iload_n hx hb dX1_prove_49 rfl (lv_at hl 1 rfl) ?_
          refine lv_iconst (v := 2) hx hb dX1_prove_50 (by decide) ?_
          obtain ⟨h_11, hw⟩ := hw
          refine x1_st7 F C h_11 dX1_prove_51 (fun H locs s_12 es_12 C => ?_)
          have hw := hw s_12 es_12
          refine lv_aload_n hx hb dX1_prove_52 rfl (lv_at hl 0 rfl) ?_
          refine x1_g12 F C dX1_prove_53 ?_
          refine lv_iload_n hx hb dX1_prove_56 rfl (lv_at hl 1 rfl) ?_
          refine lv_iload_n hx hb dX1_prove_57 rfl (lv_at hl 2 rfl) ?_
          obtain ⟨h_13, hw⟩ := hw
          refine x1_st12 F C h_13 dX1_prove_58 (fun H locs s_14 es_14 C => ?_)
          have hw := hw s_14 es_14
          refine lv_iconst (v := 1) hx hb dX1_prove_59 (by decide) ?_
          exact x_iret F C hw dX1_prove_60
        · have hw := hw.2 c_10
          refine lv_aload_n hx hb dX1_prove_39 rfl (lv_at hl 0 rfl) ?_
          refine lv_iconst (v := 3) hx hb dX1_prove_40 (by decide) ?_
          refine x_callI (rest := []) (ci := 5) (q := (RX1, TX1, 55)) F C (ctX1_meets hE hw) (cwV 1 hts (lw_V q1082 q1084 qs42 q71 q1085) rfl rfl rfl (by decide +kernel) ⟨Nat.le_of_ble_eq_true rfl, Nat.le_of_ble_eq_true rfl⟩) rfl rfl rfl hl.1 rfl (Nat.le_of_ble_eq_true rfl) dX1_prove_41 ⟨Nat.zero_le _, Nat.zero_le _⟩ (fun r_16 s_15 H locs hw C => ?_)
          exact x_iret F C hw dX1_prove_44
      · have hw := hw.2 c_8
        refine lv_bipush (v := (-4)) hx hb dX1_prove_26 (by decide) ?_
        exact x_iret F C hw dX1_prove_28
    · have hw := hw.1 c_6
      refine lv_iconst (v := (-1)) hx hb dX1_prove_15 (by decide) ?_
      exact x_iret F C hw dX1_prove_16

abbrev rmX1_strike : Room := { frames := 2, cells := 0, slots := 0, locals := 43 }
def wpX1_strike  (post : Int32 → CS → Prop) (s0 : CS) (p0 : Int32) : Prop := (wpX1_isLine (fun r_2 s_1 => ((r_2 = 0 → (post (-1) s_1)) ∧ (¬ r_2 = 0 → (vp_in p0 40 ∧ (((sA s_1 13 p0.toNatClampNeg) = 0 → (vp_in p0 40 ∧ ∀ s_7 : CS, s_7 = uA s_1 13 p0.toNatClampNeg (vp_nar .boolean 1) → (post 1 s_7))) ∧ (¬ (sA s_1 13 p0.toNatClampNeg) = 0 → (post (-4) s_1))))))) s0 p0)
theorem ctX1_strike (hE : Em E)  {post : Int32 → CS → Prop} {s0 : CS} {p0 : Int32} (hw : wpX1_strike  post s0 p0) : CtI l yX1_strike (ws_ yX1_strike cX1_strike 2 (some .int)) rmX1_strike D d E (wM o ad d) 0 0 [.ref o, .int p0] s0 post := by
  refine CtI.of hE (by decide) rfl (Nat.le_of_ble_eq_true rfl) ?_
  intro p e s m below meth c A ls F C hl
  have hl : lv_has ls 2 [(0, .ref o), (1, .int p0)] := hl
  unfold wpX1_strike at hw
  obtain ⟨hx, hb, hr, hml, hown, hts, hlk, hA, hK, -⟩ := id F
  refine lv_aload_n hx hb dX1_strike_0 rfl (lv_at hl 0 rfl) ?_
  refine lv_iload_n hx hb dX1_strike_1 rfl (lv_at hl 1 rfl) ?_
  refine x_callI (rest := []) (ci := 5) (q := (RX1, TX1, 55)) F C (ctX1_isLine hE hw) (cwV 1 hts (lw_V q1070 q1072 qs40 q71 q1073) rfl rfl rfl (by decide +kernel) ⟨Nat.le_of_ble_eq_true rfl, Nat.le_of_ble_eq_true rfl⟩) rfl rfl rfl hl.1 rfl (Nat.le_of_ble_eq_true rfl) dX1_strike_2 ⟨Nat.zero_le _, Nat.zero_le _⟩ (fun r_2 s_1 H locs hw C => ?_)
  refine lv_if_ne (tgt := 10) hx hb dX1_strike_5 (by decide) (fun c_3 => ?_) (fun c_3 => ?_)
  · have hw := hw.2 c_3
    refine lv_aload_n hx hb dX1_strike_10 rfl (lv_at hl 0 rfl) ?_
    refine x1_g13 F C dX1_strike_11 ?_
    refine lv_iload_n hx hb dX1_strike_14 rfl (lv_at hl 1 rfl) ?_
    obtain ⟨h_4, hw⟩ := hw
    refine x1_ld13 F C h_4 dX1_strike_15 ?_
    refine lv_if_eq (tgt := 22) hx hb dX1_strike_16 (by decide) (fun c_5 => ?_) (fun c_5 => ?_)
    · have hw := hw.1 c_5
      refine lv_aload_n hx hb dX1_strike_22 rfl (lv_at hl 0 rfl) ?_
      refine x1_g13 F C dX1_strike_23 ?_
      refine lv_iload_n hx hb dX1_strike_26 rfl (lv_at hl 1 rfl) ?_
      refine lv_iconst (v := 1) hx hb dX1_strike_27 (by decide) ?_
      obtain ⟨h_6, hw⟩ := hw
      refine x1_st13 F C h_6 dX1_strike_28 (fun H locs s_7 es_7 C => ?_)
      have hw := hw s_7 es_7
      refine lv_iconst (v := 1) hx hb dX1_strike_29 (by decide) ?_
      exact x_iret F C hw dX1_strike_30
    · have hw := hw.2 c_5
      refine lv_bipush (v := (-4)) hx hb dX1_strike_19 (by decide) ?_
      exact x_iret F C hw dX1_strike_21
  · have hw := hw.1 c_3
    refine lv_iconst (v := (-1)) hx hb dX1_strike_8 (by decide) ?_
    exact x_iret F C hw dX1_strike_9

abbrev rmX1_couple : Room := { frames := 2, cells := 0, slots := 0, locals := 43 }
def wX1_couple_48  (post : Int32 → CS → Prop)  (x1 : Int32) (x2 : Int32) (x3 : Int32) (x4 : Int32) (st : CS) : Prop := (((sI st 14) = 20 → (post (-2) st)) ∧ (¬ (sI st 14) = 20 → (vp_in (sI st 14) 20 ∧ ∀ s_14 : CS, s_14 = uA st 15 (sI st 14).toNatClampNeg x1 → (vp_in (sI s_14 14) 20 ∧ ∀ s_16 : CS, s_16 = uA s_14 16 (sI s_14 14).toNatClampNeg x2 → (vp_in (sI s_16 14) 20 ∧ ∀ s_18 : CS, s_18 = uA s_16 17 (sI s_16 14).toNatClampNeg x3 → (vp_in (sI s_18 14) 20 ∧ ∀ s_20 : CS, s_20 = uA s_18 18 (sI s_18 14).toNatClampNeg x4 → (∀ s_21 : CS, s_21 = uI s_20 14 ((sI s_20 14) + 1) → (post (sI s_21 14) s_21))))))))
def wpX1_couple  (post : Int32 → CS → Prop) (s0 : CS) (p0 : Int32) (p1 : Int32) (p2 : Int32) (p3 : Int32) : Prop := (wpX1_isPerson (fun r_2 s_1 => ((r_2 = 0 → (post (-1) s_1)) ∧ (¬ r_2 = 0 → (wpX1_isPerson (fun r_5 s_4 => ((r_5 = 0 → (post (-1) s_4)) ∧ (¬ r_5 = 0 → ((p0 = p1 → (post (-1) s_4)) ∧ (¬ p0 = p1 → (wpX1_isDay (fun r_9 s_8 => ((r_9 = 0 → (post (-1) s_8)) ∧ (¬ r_9 = 0 → ((p3 = (-9) → (wX1_couple_48  post  p0 p1 p2 p3 s_8)) ∧ (¬ p3 = (-9) → (wpX1_in (fun r_23 s_22 => ((r_23 = 0 → (post (-1) s_22)) ∧ (¬ r_23 = 0 → (wX1_couple_48  post  p0 p1 p2 p3 s_22)))) s_8 p3 p2 100000)))))) s_4 p2)))))) s_1 p1)))) s0 p0)
set_option maxHeartbeats 4000000 in
theorem kX1_couple_48  {post : Int32 → CS → Prop}  (F : Fx p s m args meth c cX1_couple 5 RX1 (some .int) D d E A) : ∀ (x1 : Int32) (x2 : Int32) (x3 : Int32) (x4 : Int32) (st : CS) (H : Heap) (locs : List Loc) (ls : Array Slot), wX1_couple_48  post  x1 x2 x3 x4 st → Cx D (wM o ad d) A s st H locs → lv_has ls 5 [(0, .ref o), (1, .int x1), (2, .int x2), (3, .int x3), (4, .int x4)] → W p l e (headSpec (ws_ yX1_couple cX1_couple 5 (some .int)) rmX1_couple).room s m args below meth c H locs 0 0 (QI below D d E (wM o ad d) A args s 0 0 post) (F0 m 48 ls []) := by
  obtain ⟨hx, hb, hr, hml, hown, hts, hlk, hA, hK, hE⟩ := id F
  intro x1 x2 x3 x4 st H locs ls hw C hl
  unfold wX1_couple_48 at hw
  refine lv_aload_n hx hb dX1_couple_48 rfl (lv_at hl 0 rfl) ?_
  refine x1_g14 F C dX1_couple_49 ?_
  refine lv_bipush (v := 20) hx hb dX1_couple_52 (by decide) ?_
  refine lv_icmp_ne (tgt := 60) hx hb dX1_couple_54 (by decide) (fun c_12 => ?_) (fun c_12 => ?_)
  · have hw := hw.2 c_12
    refine lv_aload_n hx hb dX1_couple_60 rfl (lv_at hl 0 rfl) ?_
    refine x1_g15 F C dX1_couple_61 ?_
    refine lv_aload_n hx hb dX1_couple_64 rfl (lv_at hl 0 rfl) ?_
    refine x1_g14 F C dX1_couple_65 ?_
    refine lv_iload_n hx hb dX1_couple_68 rfl (lv_at hl 1 rfl) ?_
    obtain ⟨h_13, hw⟩ := hw
    refine x1_st15 F C h_13 dX1_couple_69 (fun H locs s_14 es_14 C => ?_)
    have hw := hw s_14 es_14
    refine lv_aload_n hx hb dX1_couple_70 rfl (lv_at hl 0 rfl) ?_
    refine x1_g16 F C dX1_couple_71 ?_
    refine lv_aload_n hx hb dX1_couple_74 rfl (lv_at hl 0 rfl) ?_
    refine x1_g14 F C dX1_couple_75 ?_
    refine lv_iload_n hx hb dX1_couple_78 rfl (lv_at hl 2 rfl) ?_
    obtain ⟨h_15, hw⟩ := hw
    refine x1_st16 F C h_15 dX1_couple_79 (fun H locs s_16 es_16 C => ?_)
    have hw := hw s_16 es_16
    refine lv_aload_n hx hb dX1_couple_80 rfl (lv_at hl 0 rfl) ?_
    refine x1_g17 F C dX1_couple_81 ?_
    refine lv_aload_n hx hb dX1_couple_84 rfl (lv_at hl 0 rfl) ?_
    refine x1_g14 F C dX1_couple_85 ?_
    refine lv_iload_n hx hb dX1_couple_88 rfl (lv_at hl 3 rfl) ?_
    obtain ⟨h_17, hw⟩ := hw
    refine x1_st17 F C h_17 dX1_couple_89 (fun H locs s_18 es_18 C => ?_)
    have hw := hw s_18 es_18
    refine lv_aload_n hx hb dX1_couple_90 rfl (lv_at hl 0 rfl) ?_
    refine x1_g18 F C dX1_couple_91 ?_
    refine lv_aload_n hx hb dX1_couple_94 rfl (lv_at hl 0 rfl) ?_
    refine x1_g14 F C dX1_couple_95 ?_
    refine lv_iload hx hb dX1_couple_98 (lv_at hl 4 rfl) ?_
    obtain ⟨h_19, hw⟩ := hw
    refine x1_st18 F C h_19 dX1_couple_100 (fun H locs s_20 es_20 C => ?_)
    have hw := hw s_20 es_20
    refine lv_aload_n hx hb dX1_couple_101 rfl (lv_at hl 0 rfl) ?_
    refine lv_dup hx hb dX1_couple_102 rfl ?_
    refine x1_g14 F C dX1_couple_103 ?_
    refine lv_iconst (v := 1) hx hb dX1_couple_106 (by decide) ?_
    refine lv_iadd hx hb dX1_couple_107 ?_
    refine x1_p14 F C dX1_couple_108 (fun H locs s_21 es_21 C => ?_)
    have hw := hw s_21 es_21
    refine lv_aload_n hx hb dX1_couple_111 rfl (lv_at hl 0 rfl) ?_
    refine x1_g14 F C dX1_couple_112 ?_
    exact x_iret F C hw dX1_couple_115
  · have hw := hw.1 c_12
    refine lv_bipush (v := (-2)) hx hb dX1_couple_57 (by decide) ?_
    exact x_iret F C hw dX1_couple_59
theorem ctX1_couple (hE : Em E)  {post : Int32 → CS → Prop} {s0 : CS} {p0 p1 p2 p3 : Int32} (hw : wpX1_couple  post s0 p0 p1 p2 p3) : CtI l yX1_couple (ws_ yX1_couple cX1_couple 5 (some .int)) rmX1_couple D d E (wM o ad d) 0 0 [.ref o, .int p0, .int p1, .int p2, .int p3] s0 post := by
  refine CtI.of hE (by decide) rfl (Nat.le_of_ble_eq_true rfl) ?_
  intro p e s m below meth c A ls F C hl
  have hl : lv_has ls 5 [(0, .ref o), (1, .int p0), (2, .int p1), (3, .int p2), (4, .int p3)] := hl
  unfold wpX1_couple at hw
  obtain ⟨hx, hb, hr, hml, hown, hts, hlk, hA, hK, -⟩ := id F
  refine lv_aload_n hx hb dX1_couple_0 rfl (lv_at hl 0 rfl) ?_
  refine lv_iload_n hx hb dX1_couple_1 rfl (lv_at hl 1 rfl) ?_
  refine x_callI (rest := []) (ci := 5) (q := (RX1, TX1, 55)) F C (ctX1_isPerson hE hw) (cwV 1 hts (lw_V q1046 q1048 qs37 q71 q1049) rfl rfl rfl (by decide +kernel) ⟨Nat.le_of_ble_eq_true rfl, Nat.le_of_ble_eq_true rfl⟩) rfl rfl rfl hl.1 rfl (Nat.le_of_ble_eq_true rfl) dX1_couple_2 ⟨Nat.zero_le _, Nat.zero_le _⟩ (fun r_2 s_1 H locs hw C => ?_)
  refine lv_if_eq (tgt := 46) hx hb dX1_couple_5 (by decide) (fun c_3 => ?_) (fun c_3 => ?_)
  · have hw := hw.1 c_3
    refine lv_iconst (v := (-1)) hx hb dX1_couple_46 (by decide) ?_
    exact x_iret F C hw dX1_couple_47
  · have hw := hw.2 c_3
    refine lv_aload_n hx hb dX1_couple_8 rfl (lv_at hl 0 rfl) ?_
    refine lv_iload_n hx hb dX1_couple_9 rfl (lv_at hl 2 rfl) ?_
    refine x_callI (rest := []) (ci := 5) (q := (RX1, TX1, 55)) F C (ctX1_isPerson hE hw) (cwV 1 hts (lw_V q1046 q1048 qs37 q71 q1049) rfl rfl rfl (by decide +kernel) ⟨Nat.le_of_ble_eq_true rfl, Nat.le_of_ble_eq_true rfl⟩) rfl rfl rfl hl.1 rfl (Nat.le_of_ble_eq_true rfl) dX1_couple_10 ⟨Nat.zero_le _, Nat.zero_le _⟩ (fun r_5 s_4 H locs hw C => ?_)
    refine lv_if_eq (tgt := 46) hx hb dX1_couple_13 (by decide) (fun c_6 => ?_) (fun c_6 => ?_)
    · have hw := hw.1 c_6
      refine lv_iconst (v := (-1)) hx hb dX1_couple_46 (by decide) ?_
      exact x_iret F C hw dX1_couple_47
    · have hw := hw.2 c_6
      refine lv_iload_n hx hb dX1_couple_16 rfl (lv_at hl 1 rfl) ?_
      refine lv_iload_n hx hb dX1_couple_17 rfl (lv_at hl 2 rfl) ?_
      refine lv_icmp_eq (tgt := 46) hx hb dX1_couple_18 (by decide) (fun c_7 => ?_) (fun c_7 => ?_)
      · have hw := hw.1 c_7
        refine lv_iconst (v := (-1)) hx hb dX1_couple_46 (by decide) ?_
        exact x_iret F C hw dX1_couple_47
      · have hw := hw.2 c_7
        refine lv_iload_n hx hb dX1_couple_21 rfl (lv_at hl 3 rfl) ?_
        refine x_callSI (rest := []) F C (ctX1_isDay hE hw) (va_cwS 1 hts (lw_S q1038 q1039 q71 q1040) rfl rfl rfl (by decide +kernel) ⟨Nat.le_of_ble_eq_true rfl, Nat.le_of_ble_eq_true rfl⟩) rfl hl.1 rfl (Nat.le_of_ble_eq_true rfl) dX1_couple_22 ⟨Nat.zero_le _, Nat.zero_le _⟩ (fun r_9 s_8 H locs hw C => ?_)
        refine lv_if_eq (tgt := 46) hx hb dX1_couple_25 (by decide) (fun c_10 => ?_) (fun c_10 => ?_)
        · have hw := hw.1 c_10
          refine lv_iconst (v := (-1)) hx hb dX1_couple_46 (by decide) ?_
          exact x_iret F C hw dX1_couple_47
        · have hw := hw.2 c_10
          refine lv_iload hx hb dX1_couple_28 (lv_at hl 4 rfl) ?_
          refine lv_bipush (v := (-9)) hx hb dX1_couple_30 (by decide) ?_
          refine lv_icmp_eq (tgt := 48) hx hb dX1_couple_32 (by decide) (fun c_11 => ?_) (fun c_11 => ?_)
          · have hw := hw.1 c_11
            exact kX1_couple_48  F  p0 p1 p2 p3 s_8 _ _ _ hw C hl
          · have hw := hw.2 c_11
            refine lv_iload hx hb dX1_couple_35 (lv_at hl 4 rfl) ?_
            refine lv_iload_n hx hb dX1_couple_37 rfl (lv_at hl 3 rfl) ?_
            refine lv_ldc hx hb hown (hts _ q1041) dX1_couple_38 ?_
            refine x_callSI (rest := []) F C (ctX1_in hE hw) (va_cwS 3 hts (lw_S q1035 q1036 q71 q1037) rfl rfl rfl (by decide +kernel) ⟨Nat.le_of_ble_eq_true rfl, Nat.le_of_ble_eq_true rfl⟩) rfl hl.1 rfl (Nat.le_of_ble_eq_true rfl) dX1_couple_40 ⟨Nat.zero_le _, Nat.zero_le _⟩ (fun r_23 s_22 H locs hw C => ?_)
            refine lv_if_ne (tgt := 48) hx hb dX1_couple_43 (by decide) (fun c_24 => ?_) (fun c_24 => ?_)
            · have hw := hw.2 c_24
              exact kX1_couple_48  F  p0 p1 p2 p3 s_22 _ _ _ hw C hl
            · have hw := hw.1 c_24
              refine lv_iconst (v := (-1)) hx hb dX1_couple_46 (by decide) ?_
              exact x_iret F C hw dX1_couple_47

abbrev rmX1_law : Room := { frames := 2, cells := 0, slots := 0, locals := 42 }
def wpX1_law  (post : Int32 → CS → Prop) (s0 : CS) (p0 : Int32) (p1 : Int32) (p2 : Int32) (p3 : Int32) (p4 : Int32) (p5 : Int32) : Prop := (wpX1_in (fun r_2 s_1 => ((r_2 = 0 → (post (-1) s_1)) ∧ (¬ r_2 = 0 → (wpX1_isDay (fun r_5 s_4 => ((r_5 = 0 → (post (-1) s_4)) ∧ (¬ r_5 = 0 → (wpX1_in (fun r_8 s_7 => ((r_8 = 0 → (post (-1) s_7)) ∧ (¬ r_8 = 0 → (wpX1_in (fun r_11 s_10 => ((r_11 = 0 → (post (-1) s_10)) ∧ (¬ r_11 = 0 → (wpX1_in (fun r_14 s_13 => ((r_14 = 0 → (post (-1) s_13)) ∧ (¬ r_14 = 0 → (((sI s_13 19) = 16 → (post (-2) s_13)) ∧ (¬ (sI s_13 19) = 16 → (vp_in (sI s_13 19) 16 ∧ ∀ s_18 : CS, s_18 = uA s_13 20 (sI s_13 19).toNatClampNeg p0 → (vp_in (sI s_18 19) 16 ∧ ∀ s_20 : CS, s_20 = uA s_18 21 (sI s_18 19).toNatClampNeg p1 → (vp_in (sI s_20 19) 16 ∧ ∀ s_22 : CS, s_22 = uA s_20 22 (sI s_20 19).toNatClampNeg p2 → (vp_in (sI s_22 19) 16 ∧ ∀ s_24 : CS, s_24 = uA s_22 23 (sI s_22 19).toNatClampNeg p3 → (vp_in (sI s_24 19) 16 ∧ ∀ s_26 : CS, s_26 = uA s_24 24 (sI s_24 19).toNatClampNeg (vp_nar .boolean p4) → (vp_in (sI s_26 19) 16 ∧ ∀ s_28 : CS, s_28 = uA s_26 25 (sI s_26 19).toNatClampNeg p5 → (∀ s_29 : CS, s_29 = uI s_28 19 ((sI s_28 19) + 1) → (post ((sI s_29 19) - 1) s_29))))))))))))) s_10 p5 1 3)))) s_7 p2 0 p3)))) s_4 p3 1 12)))) s_1 p1)))) s0 p0 0 3)
theorem ctX1_law (hE : Em E)  {post : Int32 → CS → Prop} {s0 : CS} {p0 p1 p2 p3 p4 p5 : Int32} (hw : wpX1_law  post s0 p0 p1 p2 p3 p4 p5) : CtI l yX1_law (ws_ yX1_law cX1_law 7 (some .int)) rmX1_law D d E (wM o ad d) 0 0 [.ref o, .int p0, .int p1, .int p2, .int p3, .int p4, .int p5] s0 post := by
  refine CtI.of hE (by decide) rfl (Nat.le_of_ble_eq_true rfl) ?_
  intro p e s m below meth c A ls F C hl
  have hl : lv_has ls 7 [(0, .ref o), (1, .int p0), (2, .int p1), (3, .int p2), (4, .int p3), (5, .int p4), (6, .int p5)] := hl
  unfold wpX1_law at hw
  obtain ⟨hx, hb, hr, hml, hown, hts, hlk, hA, hK, -⟩ := id F
  refine lv_iload_n hx hb dX1_law_0 rfl (lv_at hl 1 rfl) ?_
  refine lv_iconst (v := 0) hx hb dX1_law_1 (by decide) ?_
  refine lv_iconst (v := 3) hx hb dX1_law_2 (by decide) ?_
  refine x_callSI (rest := []) F C (ctX1_in hE hw) (va_cwS 3 hts (lw_S q1035 q1036 q71 q1037) rfl rfl rfl (by decide +kernel) ⟨Nat.le_of_ble_eq_true rfl, Nat.le_of_ble_eq_true rfl⟩) rfl hl.1 rfl (Nat.le_of_ble_eq_true rfl) dX1_law_3 ⟨Nat.zero_le _, Nat.zero_le _⟩ (fun r_2 s_1 H locs hw C => ?_)
  refine lv_if_eq (tgt := 47) hx hb dX1_law_6 (by decide) (fun c_3 => ?_) (fun c_3 => ?_)
  · have hw := hw.1 c_3
    refine lv_iconst (v := (-1)) hx hb dX1_law_47 (by decide) ?_
    exact x_iret F C hw dX1_law_48
  · have hw := hw.2 c_3
    refine lv_iload_n hx hb dX1_law_9 rfl (lv_at hl 2 rfl) ?_
    refine x_callSI (rest := []) F C (ctX1_isDay hE hw) (va_cwS 1 hts (lw_S q1038 q1039 q71 q1040) rfl rfl rfl (by decide +kernel) ⟨Nat.le_of_ble_eq_true rfl, Nat.le_of_ble_eq_true rfl⟩) rfl hl.1 rfl (Nat.le_of_ble_eq_true rfl) dX1_law_10 ⟨Nat.zero_le _, Nat.zero_le _⟩ (fun r_5 s_4 H locs hw C => ?_)
    refine lv_if_eq (tgt := 47) hx hb dX1_law_13 (by decide) (fun c_6 => ?_) (fun c_6 => ?_)
    · have hw := hw.1 c_6
      refine lv_iconst (v := (-1)) hx hb dX1_law_47 (by decide) ?_
      exact x_iret F C hw dX1_law_48
    · have hw := hw.2 c_6
      refine lv_iload hx hb dX1_law_16 (lv_at hl 4 rfl) ?_
      refine lv_iconst (v := 1) hx hb dX1_law_18 (by decide) ?_
      refine lv_bipush (v := 12) hx hb dX1_law_19 (by decide) ?_
      refine x_callSI (rest := []) F C (ctX1_in hE hw) (va_cwS 3 hts (lw_S q1035 q1036 q71 q1037) rfl rfl rfl (by decide +kernel) ⟨Nat.le_of_ble_eq_true rfl, Nat.le_of_ble_eq_true rfl⟩) rfl hl.1 rfl (Nat.le_of_ble_eq_true rfl) dX1_law_21 ⟨Nat.zero_le _, Nat.zero_le _⟩ (fun r_8 s_7 H locs hw C => ?_)
      refine lv_if_eq (tgt := 47) hx hb dX1_law_24 (by decide) (fun c_9 => ?_) (fun c_9 => ?_)
      · have hw := hw.1 c_9
        refine lv_iconst (v := (-1)) hx hb dX1_law_47 (by decide) ?_
        exact x_iret F C hw dX1_law_48
      · have hw := hw.2 c_9
        refine lv_iload_n hx hb dX1_law_27 rfl (lv_at hl 3 rfl) ?_
        refine lv_iconst (v := 0) hx hb dX1_law_28 (by decide) ?_
        refine lv_iload hx hb dX1_law_29 (lv_at hl 4 rfl) ?_
        refine x_callSI (rest := []) F C (ctX1_in hE hw) (va_cwS 3 hts (lw_S q1035 q1036 q71 q1037) rfl rfl rfl (by decide +kernel) ⟨Nat.le_of_ble_eq_true rfl, Nat.le_of_ble_eq_true rfl⟩) rfl hl.1 rfl (Nat.le_of_ble_eq_true rfl) dX1_law_31 ⟨Nat.zero_le _, Nat.zero_le _⟩ (fun r_11 s_10 H locs hw C => ?_)
        refine lv_if_eq (tgt := 47) hx hb dX1_law_34 (by decide) (fun c_12 => ?_) (fun c_12 => ?_)
        · have hw := hw.1 c_12
          refine lv_iconst (v := (-1)) hx hb dX1_law_47 (by decide) ?_
          exact x_iret F C hw dX1_law_48
        · have hw := hw.2 c_12
          refine lv_iload hx hb dX1_law_37 (lv_at hl 6 rfl) ?_
          refine lv_iconst (v := 1) hx hb dX1_law_39 (by decide) ?_
          refine lv_iconst (v := 3) hx hb dX1_law_40 (by decide) ?_
          refine x_callSI (rest := []) F C (ctX1_in hE hw) (va_cwS 3 hts (lw_S q1035 q1036 q71 q1037) rfl rfl rfl (by decide +kernel) ⟨Nat.le_of_ble_eq_true rfl, Nat.le_of_ble_eq_true rfl⟩) rfl hl.1 rfl (Nat.le_of_ble_eq_true rfl) dX1_law_41 ⟨Nat.zero_le _, Nat.zero_le _⟩ (fun r_14 s_13 H locs hw C => ?_)
          refine lv_if_ne (tgt := 49) hx hb dX1_law_44 (by decide) (fun c_15 => ?_) (fun c_15 => ?_)
          · have hw := hw.2 c_15
            refine lv_aload_n hx hb dX1_law_49 rfl (lv_at hl 0 rfl) ?_
            refine x1_g19 F C dX1_law_50 ?_
            refine lv_bipush (v := 16) hx hb dX1_law_53 (by decide) ?_
            refine lv_icmp_ne (tgt := 61) hx hb dX1_law_55 (by decide) (fun c_16 => ?_) (fun c_16 => ?_)
            · have hw := hw.2 c_16
              refine lv_aload_n hx hb dX1_law_61 rfl (lv_at hl 0 rfl) ?_
              refine x1_g20 F C dX1_law_62 ?_
              refine lv_aload_n hx hb dX1_law_65 rfl (lv_at hl 0 rfl) ?_
              refine x1_g19 F C dX1_law_66 ?_
              refine lv_iload_n hx hb dX1_law_69 rfl (lv_at hl 1 rfl) ?_
              obtain ⟨h_17, hw⟩ := hw
              refine x1_st20 F C h_17 dX1_law_70 (fun H locs s_18 es_18 C => ?_)
              have hw := hw s_18 es_18
              refine lv_aload_n hx hb dX1_law_71 rfl (lv_at hl 0 rfl) ?_
              refine x1_g21 F C dX1_law_72 ?_
              refine lv_aload_n hx hb dX1_law_75 rfl (lv_at hl 0 rfl) ?_
              refine x1_g19 F C dX1_law_76 ?_
              refine lv_iload_n hx hb dX1_law_79 rfl (lv_at hl 2 rfl) ?_
              obtain ⟨h_19, hw⟩ := hw
              refine x1_st21 F C h_19 dX1_law_80 (fun H locs s_20 es_20 C => ?_)
              have hw := hw s_20 es_20
              refine lv_aload_n hx hb dX1_law_81 rfl (lv_at hl 0 rfl) ?_
              refine x1_g22 F C dX1_law_82 ?_
              refine lv_aload_n hx hb dX1_law_85 rfl (lv_at hl 0 rfl) ?_
              refine x1_g19 F C dX1_law_86 ?_
              refine lv_iload_n hx hb dX1_law_89 rfl (lv_at hl 3 rfl) ?_
              obtain ⟨h_21, hw⟩ := hw
              refine x1_st22 F C h_21 dX1_law_90 (fun H locs s_22 es_22 C => ?_)
              have hw := hw s_22 es_22
              refine lv_aload_n hx hb dX1_law_91 rfl (lv_at hl 0 rfl) ?_
              refine x1_g23 F C dX1_law_92 ?_
              refine lv_aload_n hx hb dX1_law_95 rfl (lv_at hl 0 rfl) ?_
              refine x1_g19 F C dX1_law_96 ?_
              refine lv_iload hx hb dX1_law_99 (lv_at hl 4 rfl) ?_
              obtain ⟨h_23, hw⟩ := hw
              refine x1_st23 F C h_23 dX1_law_101 (fun H locs s_24 es_24 C => ?_)
              have hw := hw s_24 es_24
              refine lv_aload_n hx hb dX1_law_102 rfl (lv_at hl 0 rfl) ?_
              refine x1_g24 F C dX1_law_103 ?_
              refine lv_aload_n hx hb dX1_law_106 rfl (lv_at hl 0 rfl) ?_
              refine x1_g19 F C dX1_law_107 ?_
              refine lv_iload hx hb dX1_law_110 (lv_at hl 5 rfl) ?_
              obtain ⟨h_25, hw⟩ := hw
              refine x1_st24 F C h_25 dX1_law_112 (fun H locs s_26 es_26 C => ?_)
              have hw := hw s_26 es_26
              refine lv_aload_n hx hb dX1_law_113 rfl (lv_at hl 0 rfl) ?_
              refine x1_g25 F C dX1_law_114 ?_
              refine lv_aload_n hx hb dX1_law_117 rfl (lv_at hl 0 rfl) ?_
              refine x1_g19 F C dX1_law_118 ?_
              refine lv_iload hx hb dX1_law_121 (lv_at hl 6 rfl) ?_
              obtain ⟨h_27, hw⟩ := hw
              refine x1_st25 F C h_27 dX1_law_123 (fun H locs s_28 es_28 C => ?_)
              have hw := hw s_28 es_28
              refine lv_aload_n hx hb dX1_law_124 rfl (lv_at hl 0 rfl) ?_
              refine lv_dup hx hb dX1_law_125 rfl ?_
              refine x1_g19 F C dX1_law_126 ?_
              refine lv_iconst (v := 1) hx hb dX1_law_129 (by decide) ?_
              refine lv_iadd hx hb dX1_law_130 ?_
              refine x1_p19 F C dX1_law_131 (fun H locs s_29 es_29 C => ?_)
              have hw := hw s_29 es_29
              refine lv_aload_n hx hb dX1_law_134 rfl (lv_at hl 0 rfl) ?_
              refine x1_g19 F C dX1_law_135 ?_
              refine lv_iconst (v := 1) hx hb dX1_law_138 (by decide) ?_
              refine lv_isub hx hb dX1_law_139 ?_
              exact x_iret F C hw dX1_law_140
            · have hw := hw.1 c_16
              refine lv_bipush (v := (-2)) hx hb dX1_law_58 (by decide) ?_
              exact x_iret F C hw dX1_law_60
          · have hw := hw.1 c_15
            refine lv_iconst (v := (-1)) hx hb dX1_law_47 (by decide) ?_
            exact x_iret F C hw dX1_law_48

abbrev rmX1_isDead : Room := { frames := 2, cells := 0, slots := 0, locals := 43 }
def wX1_isDead_23  (post : Int32 → CS → Prop)   (st : CS) : Prop := (post 0 st)
def wpX1_isDead  (post : Int32 → CS → Prop) (s0 : CS) (p0 : Int32) : Prop := (wpX1_isPerson (fun r_2 s_1 => ((r_2 = 0 → (wX1_isDead_23  post  s_1)) ∧ (¬ r_2 = 0 → (vp_in p0 24 ∧ (((sA s_1 5 p0.toNatClampNeg) = (-9) → (wX1_isDead_23  post  s_1)) ∧ (¬ (sA s_1 5 p0.toNatClampNeg) = (-9) → (post 1 s_1))))))) s0 p0)
set_option maxHeartbeats 4000000 in
theorem kX1_isDead_23  {post : Int32 → CS → Prop}  (F : Fx p s m args meth c cX1_isDead 2 RX1 (some .boolean) D d E A) : ∀  (st : CS) (H : Heap) (locs : List Loc) (ls : Array Slot), wX1_isDead_23  post  st → Cx D (wM o ad d) A s st H locs → lv_has ls 2 [] → W p l e (headSpec (ws_ yX1_isDead cX1_isDead 2 (some .boolean)) rmX1_isDead).room s m args below meth c H locs 0 0 (QI below D d E (wM o ad d) A args s 0 0 post) (F0 m 23 ls []) := by
  obtain ⟨hx, hb, hr, hml, hown, hts, hlk, hA, hK, hE⟩ := id F
  intro st H locs ls hw C hl
  unfold wX1_isDead_23 at hw
  refine lv_iconst (v := 0) hx hb dX1_isDead_23 (by decide) ?_
  exact x_zret F C zb_0 hw dX1_isDead_24
theorem ctX1_isDead (hE : Em E)  {post : Int32 → CS → Prop} {s0 : CS} {p0 : Int32} (hw : wpX1_isDead  post s0 p0) : CtI l yX1_isDead (ws_ yX1_isDead cX1_isDead 2 (some .boolean)) rmX1_isDead D d E (wM o ad d) 0 0 [.ref o, .int p0] s0 post := by
  refine CtI.of hE (by decide) rfl (Nat.le_of_ble_eq_true rfl) ?_
  intro p e s m below meth c A ls F C hl
  have hl : lv_has ls 2 [(0, .ref o), (1, .int p0)] := hl
  unfold wpX1_isDead at hw
  obtain ⟨hx, hb, hr, hml, hown, hts, hlk, hA, hK, -⟩ := id F
  refine lv_aload_n hx hb dX1_isDead_0 rfl (lv_at hl 0 rfl) ?_
  refine lv_iload_n hx hb dX1_isDead_1 rfl (lv_at hl 1 rfl) ?_
  refine x_callI (rest := []) (ci := 5) (q := (RX1, TX1, 55)) F C (ctX1_isPerson hE hw) (cwV 1 hts (lw_V q1046 q1048 qs37 q71 q1049) rfl rfl rfl (by decide +kernel) ⟨Nat.le_of_ble_eq_true rfl, Nat.le_of_ble_eq_true rfl⟩) rfl rfl rfl hl.1 rfl (Nat.le_of_ble_eq_true rfl) dX1_isDead_2 ⟨Nat.zero_le _, Nat.zero_le _⟩ (fun r_2 s_1 H locs hw C => ?_)
  refine lv_if_eq (tgt := 23) hx hb dX1_isDead_5 (by decide) (fun c_3 => ?_) (fun c_3 => ?_)
  · have hw := hw.1 c_3
    exact kX1_isDead_23  F  s_1 _ _ _ hw C (lv_sub hl [] rfl)
  · have hw := hw.2 c_3
    refine lv_aload_n hx hb dX1_isDead_8 rfl (lv_at hl 0 rfl) ?_
    refine x1_g5 F C dX1_isDead_9 ?_
    refine lv_iload_n hx hb dX1_isDead_12 rfl (lv_at hl 1 rfl) ?_
    obtain ⟨h_4, hw⟩ := hw
    refine x1_ld5 F C h_4 dX1_isDead_13 ?_
    refine lv_bipush (v := (-9)) hx hb dX1_isDead_14 (by decide) ?_
    refine lv_icmp_eq (tgt := 23) hx hb dX1_isDead_16 (by decide) (fun c_5 => ?_) (fun c_5 => ?_)
    · have hw := hw.1 c_5
      exact kX1_isDead_23  F  s_1 _ _ _ hw C (lv_sub hl [] rfl)
    · have hw := hw.2 c_5
      refine lv_iconst (v := 1) hx hb dX1_isDead_19 (by decide) ?_
      refine lv_goto (tgt := 24) hx hb dX1_isDead_20 (by decide) ?_
      exact x_zret F C zb_1 hw dX1_isDead_24

abbrev rmX1_lawFor : Room := { frames := 0, cells := 0, slots := 0, locals := 0 }
def wX1_lawFor_79  (post : Int32 → CS → Prop) (k5 : Int32 → Int32 → Int32 → CS → Prop) (x1 : Int32) (x3 : Int32) (y0 : Int32) (st : CS) : Prop := (∀ x3_6 : Int32, x3_6 = x3 + 1 → (k5 x1 y0 x3_6 st))
def wX1_lawFor_78  (post : Int32 → CS → Prop) (k5 : Int32 → Int32 → Int32 → CS → Prop) (x1 : Int32) (x2 : Int32) (x3 : Int32) (st : CS) : Prop := (wX1_lawFor_79  post k5 x1 x3 x2 st)
def wX1_lawFor_74  (post : Int32 → CS → Prop) (k5 : Int32 → Int32 → Int32 → CS → Prop) (x1 : Int32) (x3 : Int32) (st : CS) : Prop := (wX1_lawFor_79  post k5 x1 x3 x3 st)
def wX1_lawFor_48  (post : Int32 → CS → Prop) (k5 : Int32 → Int32 → Int32 → CS → Prop) (x1 : Int32) (x2 : Int32) (x3 : Int32) (y0 : Int32) (st : CS) : Prop := ((y0 = 0 → (wX1_lawFor_78  post k5 x1 x2 x3 st)) ∧ (¬ y0 = 0 → ((x2 < 0 → (wX1_lawFor_74  post k5 x1 x3 st)) ∧ (¬ x2 < 0 → (vp_in x3 16 ∧ (vp_in x2 16 ∧ (((sA st 21 x3.toNatClampNeg) < (sA st 21 x2.toNatClampNeg) → (wX1_lawFor_78  post k5 x1 x2 x3 st)) ∧ (¬ (sA st 21 x3.toNatClampNeg) < (sA st 21 x2.toNatClampNeg) → (wX1_lawFor_74  post k5 x1 x3 st)))))))))
def wX1_lawFor_47  (post : Int32 → CS → Prop) (k5 : Int32 → Int32 → Int32 → CS → Prop) (x1 : Int32) (x2 : Int32) (x3 : Int32) (st : CS) : Prop := (wX1_lawFor_48  post k5 x1 x2 x3 0 st)
def wX1_lawFor_5  (post : Int32 → CS → Prop)  : Nat → Int32 → Int32 → Int32 → CS → Prop
  | 0 => fun _ _ _ _ => False
  | n + 1 => fun x1 x2 x3 st => (((sI st 19) ≤ x3 → (post x2 st)) ∧ (¬ (sI st 19) ≤ x3 → (vp_in x3 16 ∧ (vp_in x1 24 ∧ (((sA st 20 x3.toNatClampNeg) = (sA st 3 x1.toNatClampNeg) → (vp_in x3 16 ∧ (vp_in x1 24 ∧ (((sA st 5 x1.toNatClampNeg) < (sA st 21 x3.toNatClampNeg) → (wX1_lawFor_47  post (wX1_lawFor_5  post  n) x1 x2 x3 st)) ∧ (¬ (sA st 5 x1.toNatClampNeg) < (sA st 21 x3.toNatClampNeg) → (wX1_lawFor_48  post (wX1_lawFor_5  post  n) x1 x2 x3 1 st)))))) ∧ (¬ (sA st 20 x3.toNatClampNeg) = (sA st 3 x1.toNatClampNeg) → (wX1_lawFor_47  post (wX1_lawFor_5  post  n) x1 x2 x3 st)))))))
def wpX1_lawFor  (post : Int32 → CS → Prop) (s0 : CS) (p0 : Int32) : Prop := (∃ fu : Nat, wX1_lawFor_5  post  fu p0 (-9) 0 s0)
set_option maxHeartbeats 4000000 in
theorem kX1_lawFor_79  {post : Int32 → CS → Prop} {k5 : Int32 → Int32 → Int32 → CS → Prop} (F : Fx p s m args meth c cX1_lawFor 5 RX1 (some .int) D d E A) (hk5 : ∀ (x1 : Int32) (x2 : Int32) (x3 : Int32) (st : CS) (H : Heap) (locs : List Loc) (ls : Array Slot), k5 x1 x2 x3 st → Cx D (wM o ad d) A s st H locs → lv_has ls 5 [(0, .ref o), (1, .int x1), (2, .int x2), (3, .int x3)] → W p l e (headSpec (ws_ yX1_lawFor cX1_lawFor 5 (some .int)) rmX1_lawFor).room s m args below meth c H locs 0 0 (QI below D d E (wM o ad d) A args s 0 0 post) (F0 m 5 ls [])) : ∀ (x1 : Int32) (x3 : Int32) (y0 : Int32) (st : CS) (H : Heap) (locs : List Loc) (ls : Array Slot), wX1_lawFor_79  post k5 x1 x3 y0 st → Cx D (wM o ad d) A s st H locs → lv_has ls 5 [(0, .ref o), (1, .int x1), (3, .int x3)] → W p l e (headSpec (ws_ yX1_lawFor cX1_lawFor 5 (some .int)) rmX1_lawFor).room s m args below meth c H locs 0 0 (QI below D d E (wM o ad d) A args s 0 0 post) (F0 m 79 ls [.int y0]) := by
  obtain ⟨hx, hb, hr, hml, hown, hts, hlk, hA, hK, hE⟩ := id F
  intro x1 x3 y0 st H locs ls hw C hl
  unfold wX1_lawFor_79 at hw
  refine lv_istore_n (lv' := [(2, .int y0), (0, .ref o), (1, .int x1), (3, .int x3)]) hx hb dX1_lawFor_79 rfl hl (by decide) rfl (fun ls hl => ?_)
  obtain ⟨x3_6, ex3_6⟩ : ∃ y : Int32, y = x3 + 1 := ⟨_, rfl⟩
  have hw := hw x3_6 ex3_6
  refine lv_iinc (v := x3_6) (lv' := [(3, .int x3_6), (2, .int y0), (0, .ref o), (1, .int x1)]) hx hb dX1_lawFor_80 hl (k := 3) rfl (by rw [ex3_6]; rfl) (by decide) rfl (fun ls hl => ?_)
  refine lv_goto (tgt := 5) hx hb dX1_lawFor_83 (by decide) ?_
  exact hk5 x1 y0 x3_6 st _ _ _ hw C (lv_sub hl [2, 3, 1, 0] rfl)
set_option maxHeartbeats 4000000 in
theorem kX1_lawFor_78  {post : Int32 → CS → Prop} {k5 : Int32 → Int32 → Int32 → CS → Prop} (F : Fx p s m args meth c cX1_lawFor 5 RX1 (some .int) D d E A) (hk5 : ∀ (x1 : Int32) (x2 : Int32) (x3 : Int32) (st : CS) (H : Heap) (locs : List Loc) (ls : Array Slot), k5 x1 x2 x3 st → Cx D (wM o ad d) A s st H locs → lv_has ls 5 [(0, .ref o), (1, .int x1), (2, .int x2), (3, .int x3)] → W p l e (headSpec (ws_ yX1_lawFor cX1_lawFor 5 (some .int)) rmX1_lawFor).room s m args below meth c H locs 0 0 (QI below D d E (wM o ad d) A args s 0 0 post) (F0 m 5 ls [])) : ∀ (x1 : Int32) (x2 : Int32) (x3 : Int32) (st : CS) (H : Heap) (locs : List Loc) (ls : Array Slot), wX1_lawFor_78  post k5 x1 x2 x3 st → Cx D (wM o ad d) A s st H locs → lv_has ls 5 [(0, .ref o), (1, .int x1), (2, .int x2), (3, .int x3)] → W p l e (headSpec (ws_ yX1_lawFor cX1_lawFor 5 (some .int)) rmX1_lawFor).room s m args below meth c H locs 0 0 (QI below D d E (wM o ad d) A args s 0 0 post) (F0 m 78 ls []) := by
  obtain ⟨hx, hb, hr, hml, hown, hts, hlk, hA, hK, hE⟩ := id F
  intro x1 x2 x3 st H locs ls hw C hl
  unfold wX1_lawFor_78 at hw
  refine lv_iload_n hx hb dX1_lawFor_78 rfl (lv_at hl 2 rfl) ?_
  exact kX1_lawFor_79  F hk5 x1 x3 x2 st _ _ _ hw C (lv_sub hl [0, 1, 3] rfl)
set_option maxHeartbeats 4000000 in
theorem kX1_lawFor_74  {post : Int32 → CS → Prop} {k5 : Int32 → Int32 → Int32 → CS → Prop} (F : Fx p s m args meth c cX1_lawFor 5 RX1 (some .int) D d E A) (hk5 : ∀ (x1 : Int32) (x2 : Int32) (x3 : Int32) (st : CS) (H : Heap) (locs : List Loc) (ls : Array Slot), k5 x1 x2 x3 st → Cx D (wM o ad d) A s st H locs → lv_has ls 5 [(0, .ref o), (1, .int x1), (2, .int x2), (3, .int x3)] → W p l e (headSpec (ws_ yX1_lawFor cX1_lawFor 5 (some .int)) rmX1_lawFor).room s m args below meth c H locs 0 0 (QI below D d E (wM o ad d) A args s 0 0 post) (F0 m 5 ls [])) : ∀ (x1 : Int32) (x3 : Int32) (st : CS) (H : Heap) (locs : List Loc) (ls : Array Slot), wX1_lawFor_74  post k5 x1 x3 st → Cx D (wM o ad d) A s st H locs → lv_has ls 5 [(0, .ref o), (1, .int x1), (3, .int x3)] → W p l e (headSpec (ws_ yX1_lawFor cX1_lawFor 5 (some .int)) rmX1_lawFor).room s m args below meth c H locs 0 0 (QI below D d E (wM o ad d) A args s 0 0 post) (F0 m 74 ls []) := by
  obtain ⟨hx, hb, hr, hml, hown, hts, hlk, hA, hK, hE⟩ := id F
  intro x1 x3 st H locs ls hw C hl
  unfold wX1_lawFor_74 at hw
  refine lv_iload_n hx hb dX1_lawFor_74 rfl (lv_at hl 2 rfl) ?_
  refine lv_goto (tgt := 79) hx hb dX1_lawFor_75 (by decide) ?_
  exact kX1_lawFor_79  F hk5 x1 x3 x3 st _ _ _ hw C hl
set_option maxHeartbeats 4000000 in
theorem kX1_lawFor_48  {post : Int32 → CS → Prop} {k5 : Int32 → Int32 → Int32 → CS → Prop} (F : Fx p s m args meth c cX1_lawFor 5 RX1 (some .int) D d E A) (hk5 : ∀ (x1 : Int32) (x2 : Int32) (x3 : Int32) (st : CS) (H : Heap) (locs : List Loc) (ls : Array Slot), k5 x1 x2 x3 st → Cx D (wM o ad d) A s st H locs → lv_has ls 5 [(0, .ref o), (1, .int x1), (2, .int x2), (3, .int x3)] → W p l e (headSpec (ws_ yX1_lawFor cX1_lawFor 5 (some .int)) rmX1_lawFor).room s m args below meth c H locs 0 0 (QI below D d E (wM o ad d) A args s 0 0 post) (F0 m 5 ls [])) : ∀ (x1 : Int32) (x2 : Int32) (x3 : Int32) (y0 : Int32) (st : CS) (H : Heap) (locs : List Loc) (ls : Array Slot), wX1_lawFor_48  post k5 x1 x2 x3 y0 st → Cx D (wM o ad d) A s st H locs → lv_has ls 5 [(0, .ref o), (1, .int x1), (2, .int x2), (3, .int x3)] → W p l e (headSpec (ws_ yX1_lawFor cX1_lawFor 5 (some .int)) rmX1_lawFor).room s m args below meth c H locs 0 0 (QI below D d E (wM o ad d) A args s 0 0 post) (F0 m 48 ls [.int y0]) := by
  obtain ⟨hx, hb, hr, hml, hown, hts, hlk, hA, hK, hE⟩ := id F
  intro x1 x2 x3 y0 st H locs ls hw C hl
  unfold wX1_lawFor_48 at hw
  refine lv_istore (lv' := [(4, .int y0), (0, .ref o), (1, .int x1), (2, .int x2), (3, .int x3)]) hx hb dX1_lawFor_48 hl (by decide) rfl (fun ls hl => ?_)
  refine lv_iload hx hb dX1_lawFor_50 (lv_at hl 0 rfl) ?_
  refine lv_if_eq (tgt := 78) hx hb dX1_lawFor_52 (by decide) (fun c_5 => ?_) (fun c_5 => ?_)
  · have hw := hw.1 c_5
    exact kX1_lawFor_78  F hk5 x1 x2 x3 st _ _ _ hw C (lv_sub hl [1, 2, 3, 4] rfl)
  · have hw := hw.2 c_5
    refine lv_iload_n hx hb dX1_lawFor_55 rfl (lv_at hl 3 rfl) ?_
    refine lv_if_lt (tgt := 74) hx hb dX1_lawFor_56 (by decide) (fun c_7 => ?_) (fun c_7 => ?_)
    · have hw := hw.1 c_7
      exact kX1_lawFor_74  F hk5 x1 x3 st _ _ _ hw C (lv_sub hl [1, 2, 4] rfl)
    · have hw := hw.2 c_7
      refine lv_aload_n hx hb dX1_lawFor_59 rfl (lv_at hl 1 rfl) ?_
      refine x1_g21 F C dX1_lawFor_60 ?_
      refine lv_iload_n hx hb dX1_lawFor_63 rfl (lv_at hl 4 rfl) ?_
      obtain ⟨h_8, hw⟩ := hw
      refine x1_ld21 F C h_8 dX1_lawFor_64 ?_
      refine lv_aload_n hx hb dX1_lawFor_65 rfl (lv_at hl 1 rfl) ?_
      refine x1_g21 F C dX1_lawFor_66 ?_
      refine lv_iload_n hx hb dX1_lawFor_69 rfl (lv_at hl 3 rfl) ?_
      obtain ⟨h_9, hw⟩ := hw
      refine x1_ld21 F C h_9 dX1_lawFor_70 ?_
      refine lv_icmp_lt (tgt := 78) hx hb dX1_lawFor_71 (by decide) (fun c_10 => ?_) (fun c_10 => ?_)
      · have hw := hw.1 c_10
        exact kX1_lawFor_78  F hk5 x1 x2 x3 st _ _ _ hw C (lv_sub hl [1, 2, 3, 4] rfl)
      · have hw := hw.2 c_10
        exact kX1_lawFor_74  F hk5 x1 x3 st _ _ _ hw C (lv_sub hl [1, 2, 4] rfl)
set_option maxHeartbeats 4000000 in
theorem kX1_lawFor_47  {post : Int32 → CS → Prop} {k5 : Int32 → Int32 → Int32 → CS → Prop} (F : Fx p s m args meth c cX1_lawFor 5 RX1 (some .int) D d E A) (hk5 : ∀ (x1 : Int32) (x2 : Int32) (x3 : Int32) (st : CS) (H : Heap) (locs : List Loc) (ls : Array Slot), k5 x1 x2 x3 st → Cx D (wM o ad d) A s st H locs → lv_has ls 5 [(0, .ref o), (1, .int x1), (2, .int x2), (3, .int x3)] → W p l e (headSpec (ws_ yX1_lawFor cX1_lawFor 5 (some .int)) rmX1_lawFor).room s m args below meth c H locs 0 0 (QI below D d E (wM o ad d) A args s 0 0 post) (F0 m 5 ls [])) : ∀ (x1 : Int32) (x2 : Int32) (x3 : Int32) (st : CS) (H : Heap) (locs : List Loc) (ls : Array Slot), wX1_lawFor_47  post k5 x1 x2 x3 st → Cx D (wM o ad d) A s st H locs → lv_has ls 5 [(0, .ref o), (1, .int x1), (2, .int x2), (3, .int x3)] → W p l e (headSpec (ws_ yX1_lawFor cX1_lawFor 5 (some .int)) rmX1_lawFor).room s m args below meth c H locs 0 0 (QI below D d E (wM o ad d) A args s 0 0 post) (F0 m 47 ls []) := by
  obtain ⟨hx, hb, hr, hml, hown, hts, hlk, hA, hK, hE⟩ := id F
  intro x1 x2 x3 st H locs ls hw C hl
  unfold wX1_lawFor_47 at hw
  refine lv_iconst (v := 0) hx hb dX1_lawFor_47 (by decide) ?_
  exact kX1_lawFor_48  F hk5 x1 x2 x3 0 st _ _ _ hw C hl
set_option maxHeartbeats 4000000 in
theorem kX1_lawFor_5  {post : Int32 → CS → Prop}  (F : Fx p s m args meth c cX1_lawFor 5 RX1 (some .int) D d E A) : ∀ (fu : Nat) (x1 : Int32) (x2 : Int32) (x3 : Int32) (st : CS) (H : Heap) (locs : List Loc) (ls : Array Slot), wX1_lawFor_5  post  fu x1 x2 x3 st → Cx D (wM o ad d) A s st H locs → lv_has ls 5 [(0, .ref o), (1, .int x1), (2, .int x2), (3, .int x3)] → W p l e (headSpec (ws_ yX1_lawFor cX1_lawFor 5 (some .int)) rmX1_lawFor).room s m args below meth c H locs 0 0 (QI below D d E (wM o ad d) A args s 0 0 post) (F0 m 5 ls []) := by
  obtain ⟨hx, hb, hr, hml, hown, hts, hlk, hA, hK, hE⟩ := id F
  intro fu
  induction fu with
  | zero =>
    intro x1 x2 x3 st H locs ls hw
    exact hw.elim
  | succ n ih =>
    have hk5 := ih
    intro x1 x2 x3 st H locs ls hw C hl
    unfold wX1_lawFor_5 at hw
    refine lv_iload_n hx hb dX1_lawFor_5 rfl (lv_at hl 3 rfl) ?_
    refine lv_aload_n hx hb dX1_lawFor_6 rfl (lv_at hl 0 rfl) ?_
    refine x1_g19 F C dX1_lawFor_7 ?_
    refine lv_icmp_ge (tgt := 86) hx hb dX1_lawFor_10 (by decide) (fun c_1 => ?_) (fun c_1 => ?_)
    · have hw := hw.1 c_1
      refine lv_iload_n hx hb dX1_lawFor_86 rfl (lv_at hl 2 rfl) ?_
      exact x_iret F C hw dX1_lawFor_87
    · have hw := hw.2 c_1
      refine lv_aload_n hx hb dX1_lawFor_13 rfl (lv_at hl 0 rfl) ?_
      refine x1_g20 F C dX1_lawFor_14 ?_
      refine lv_iload_n hx hb dX1_lawFor_17 rfl (lv_at hl 3 rfl) ?_
      obtain ⟨h_2, hw⟩ := hw
      refine x1_ld20 F C h_2 dX1_lawFor_18 ?_
      refine lv_aload_n hx hb dX1_lawFor_19 rfl (lv_at hl 0 rfl) ?_
      refine x1_g3 F C dX1_lawFor_20 ?_
      refine lv_iload_n hx hb dX1_lawFor_23 rfl (lv_at hl 1 rfl) ?_
      obtain ⟨h_3, hw⟩ := hw
      refine x1_ld3 F C h_3 dX1_lawFor_24 ?_
      refine lv_icmp_ne (tgt := 47) hx hb dX1_lawFor_25 (by decide) (fun c_4 => ?_) (fun c_4 => ?_)
      · have hw := hw.2 c_4
        exact kX1_lawFor_47  F hk5 x1 x2 x3 st _ _ _ hw C hl
      · have hw := hw.1 c_4
        refine lv_aload_n hx hb dX1_lawFor_28 rfl (lv_at hl 0 rfl) ?_
        refine x1_g21 F C dX1_lawFor_29 ?_
        refine lv_iload_n hx hb dX1_lawFor_32 rfl (lv_at hl 3 rfl) ?_
        obtain ⟨h_11, hw⟩ := hw
        refine x1_ld21 F C h_11 dX1_lawFor_33 ?_
        refine lv_aload_n hx hb dX1_lawFor_34 rfl (lv_at hl 0 rfl) ?_
        refine x1_g5 F C dX1_lawFor_35 ?_
        refine lv_iload_n hx hb dX1_lawFor_38 rfl (lv_at hl 1 rfl) ?_
        obtain ⟨h_12, hw⟩ := hw
        refine x1_ld5 F C h_12 dX1_lawFor_39 ?_
        refine lv_icmp_gt (tgt := 47) hx hb dX1_lawFor_40 (by decide) (fun c_13 => ?_) (fun c_13 => ?_)
        · have hw := hw.1 c_13
          exact kX1_lawFor_47  F hk5 x1 x2 x3 st _ _ _ hw C hl
        · have hw := hw.2 c_13
          refine lv_iconst (v := 1) hx hb dX1_lawFor_43 (by decide) ?_
          refine lv_goto (tgt := 48) hx hb dX1_lawFor_44 (by decide) ?_
          exact kX1_lawFor_48  F hk5 x1 x2 x3 1 st _ _ _ hw C hl
theorem ctX1_lawFor (hE : Em E)  {post : Int32 → CS → Prop} {s0 : CS} {p0 : Int32} (hw : wpX1_lawFor  post s0 p0) : CtI l yX1_lawFor (ws_ yX1_lawFor cX1_lawFor 5 (some .int)) rmX1_lawFor D d E (wM o ad d) 0 0 [.ref o, .int p0] s0 post := by
  refine CtI.of hE (by decide) rfl (Nat.le_of_ble_eq_true rfl) ?_
  intro p e s m below meth c A ls F C hl
  have hl : lv_has ls 5 [(0, .ref o), (1, .int p0)] := hl
  unfold wpX1_lawFor at hw
  obtain ⟨hx, hb, hr, hml, hown, hts, hlk, hA, hK, -⟩ := id F
  refine lv_bipush (v := (-9)) hx hb dX1_lawFor_0 (by decide) ?_
  refine lv_istore_n (lv' := [(2, .int (-9)), (0, .ref o), (1, .int p0)]) hx hb dX1_lawFor_2 rfl hl (by decide) rfl (fun ls hl => ?_)
  refine lv_iconst (v := 0) hx hb dX1_lawFor_3 (by decide) ?_
  refine lv_istore_n (lv' := [(3, .int 0), (2, .int (-9)), (0, .ref o), (1, .int p0)]) hx hb dX1_lawFor_4 rfl hl (by decide) rfl (fun ls hl => ?_)
  obtain ⟨fu, hw⟩ := hw
  exact kX1_lawFor_5  F  fu p0 (-9) 0 s0 _ _ _ hw C (lv_sub hl [2, 3, 1, 0] rfl)

abbrev rmX1_asked : Room := { frames := 3, cells := 0, slots := 0, locals := 64 }
def wpX1_asked  (post : Int32 → CS → Prop) (s0 : CS) (p0 : Int32) : Prop := (wpX1_isDead (fun r_2 s_1 => ((r_2 = 0 → (post (-1) s_1)) ∧ (¬ r_2 = 0 → (wpX1_lawFor (fun r_5 s_4 => ((0 ≤ r_5 → (post 0 s_4)) ∧ (¬ 0 ≤ r_5 → (post (-4) s_4)))) s_1 p0)))) s0 p0)
theorem ctX1_asked (hE : Em E)  {post : Int32 → CS → Prop} {s0 : CS} {p0 : Int32} (hw : wpX1_asked  post s0 p0) : CtI l yX1_asked (ws_ yX1_asked cX1_asked 2 (some .int)) rmX1_asked D d E (wM o ad d) 0 0 [.ref o, .int p0] s0 post := by
  refine CtI.of hE (by decide) rfl (Nat.le_of_ble_eq_true rfl) ?_
  intro p e s m below meth c A ls F C hl
  have hl : lv_has ls 2 [(0, .ref o), (1, .int p0)] := hl
  unfold wpX1_asked at hw
  obtain ⟨hx, hb, hr, hml, hown, hts, hlk, hA, hK, -⟩ := id F
  refine lv_aload_n hx hb dX1_asked_0 rfl (lv_at hl 0 rfl) ?_
  refine lv_iload_n hx hb dX1_asked_1 rfl (lv_at hl 1 rfl) ?_
  refine x_callI (rest := []) (ci := 5) (q := (RX1, TX1, 55)) F C (ctX1_isDead hE hw) (cwV 1 hts (lw_V q1110 q1112 qs44 q71 q1113) rfl rfl rfl (by decide +kernel) ⟨Nat.le_of_ble_eq_true rfl, Nat.le_of_ble_eq_true rfl⟩) rfl rfl rfl hl.1 rfl (Nat.le_of_ble_eq_true rfl) dX1_asked_2 ⟨Nat.zero_le _, Nat.zero_le _⟩ (fun r_2 s_1 H locs hw C => ?_)
  refine lv_if_ne (tgt := 12) hx hb dX1_asked_5 (by decide) (fun c_3 => ?_) (fun c_3 => ?_)
  · have hw := hw.2 c_3
    refine lv_aload_n hx hb dX1_asked_12 rfl (lv_at hl 0 rfl) ?_
    refine lv_iload_n hx hb dX1_asked_13 rfl (lv_at hl 1 rfl) ?_
    refine x_callI (rest := []) (ci := 5) (q := (RX1, TX1, 55)) F C (ctX1_lawFor hE hw) (cwV 1 hts (lw_V q1114 q1116 qs45 q71 q1117) rfl rfl rfl (by decide +kernel) ⟨Nat.le_of_ble_eq_true rfl, Nat.le_of_ble_eq_true rfl⟩) rfl rfl rfl hl.1 rfl (Nat.le_of_ble_eq_true rfl) dX1_asked_14 ⟨Nat.zero_le _, Nat.zero_le _⟩ (fun r_5 s_4 H locs hw C => ?_)
    refine lv_if_ge (tgt := 25) hx hb dX1_asked_17 (by decide) (fun c_6 => ?_) (fun c_6 => ?_)
    · have hw := hw.1 c_6
      refine lv_iconst (v := 0) hx hb dX1_asked_25 (by decide) ?_
      exact x_iret F C hw dX1_asked_26
    · have hw := hw.2 c_6
      refine lv_bipush (v := (-4)) hx hb dX1_asked_20 (by decide) ?_
      refine lv_goto (tgt := 26) hx hb dX1_asked_22 (by decide) ?_
      exact x_iret F C hw dX1_asked_26
  · have hw := hw.1 c_3
    refine lv_iconst (v := (-1)) hx hb dX1_asked_8 (by decide) ?_
    refine lv_goto (tgt := 26) hx hb dX1_asked_9 (by decide) ?_
    exact x_iret F C hw dX1_asked_26

abbrev rmX1_lawOf : Room := { frames := 4, cells := 0, slots := 0, locals := 85 }
def wpX1_lawOf  (post : Int32 → CS → Prop) (s0 : CS) (p0 : Int32) : Prop := (wpX1_asked (fun r_2 s_1 => ((0 ≤ r_2 → (wpX1_lawFor (fun r_5 s_4 => (post r_5 s_4)) s_1 p0)) ∧ (¬ 0 ≤ r_2 → (post r_2 s_1)))) s0 p0)
theorem ctX1_lawOf (hE : Em E)  {post : Int32 → CS → Prop} {s0 : CS} {p0 : Int32} (hw : wpX1_lawOf  post s0 p0) : CtI l yX1_lawOf (ws_ yX1_lawOf cX1_lawOf 3 (some .int)) rmX1_lawOf D d E (wM o ad d) 0 0 [.ref o, .int p0] s0 post := by
  refine CtI.of hE (by decide) rfl (Nat.le_of_ble_eq_true rfl) ?_
  intro p e s m below meth c A ls F C hl
  have hl : lv_has ls 3 [(0, .ref o), (1, .int p0)] := hl
  unfold wpX1_lawOf at hw
  obtain ⟨hx, hb, hr, hml, hown, hts, hlk, hA, hK, -⟩ := id F
  refine lv_aload_n hx hb dX1_lawOf_0 rfl (lv_at hl 0 rfl) ?_
  refine lv_iload_n hx hb dX1_lawOf_1 rfl (lv_at hl 1 rfl) ?_
  refine x_callI (rest := []) (ci := 5) (q := (RX1, TX1, 55)) F C (ctX1_asked hE hw) (cwV 1 hts (lw_V q1106 q1108 qs43 q71 q1109) rfl rfl rfl (by decide +kernel) ⟨Nat.le_of_ble_eq_true rfl, Nat.le_of_ble_eq_true rfl⟩) rfl rfl rfl hl.1 rfl (Nat.le_of_ble_eq_true rfl) dX1_lawOf_2 ⟨Nat.zero_le _, Nat.zero_le _⟩ (fun r_2 s_1 H locs hw C => ?_)
  refine lv_istore_n (lv' := [(2, .int r_2), (0, .ref o), (1, .int p0)]) hx hb dX1_lawOf_5 rfl hl (by decide) rfl (fun ls hl => ?_)
  refine lv_iload_n hx hb dX1_lawOf_6 rfl (lv_at hl 0 rfl) ?_
  refine lv_if_ge (tgt := 14) hx hb dX1_lawOf_7 (by decide) (fun c_3 => ?_) (fun c_3 => ?_)
  · have hw := hw.1 c_3
    refine lv_aload_n hx hb dX1_lawOf_14 rfl (lv_at hl 1 rfl) ?_
    refine lv_iload_n hx hb dX1_lawOf_15 rfl (lv_at hl 2 rfl) ?_
    refine x_callI (rest := []) (ci := 5) (q := (RX1, TX1, 55)) F C (ctX1_lawFor hE hw) (cwV 1 hts (lw_V q1114 q1116 qs45 q71 q1117) rfl rfl rfl (by decide +kernel) ⟨Nat.le_of_ble_eq_true rfl, Nat.le_of_ble_eq_true rfl⟩) rfl rfl rfl hl.1 rfl (Nat.le_of_ble_eq_true rfl) dX1_lawOf_16 ⟨Nat.zero_le _, Nat.zero_le _⟩ (fun r_5 s_4 H locs hw C => ?_)
    exact x_iret F C hw dX1_lawOf_19
  · have hw := hw.2 c_3
    refine lv_iload_n hx hb dX1_lawOf_10 rfl (lv_at hl 0 rfl) ?_
    refine lv_goto (tgt := 19) hx hb dX1_lawOf_11 (by decide) ?_
    exact x_iret F C hw dX1_lawOf_19

abbrev rmX1_isTaker : Room := { frames := 2, cells := 0, slots := 0, locals := 43 }
def wX1_isTaker_14  (post : Int32 → CS → Prop)   (st : CS) : Prop := (post 1 st)
def wpX1_isTaker  (post : Int32 → CS → Prop) (s0 : CS) (p0 : Int32) : Prop := ((p0 = (-9) → (wX1_isTaker_14  post  s0)) ∧ (¬ p0 = (-9) → (wpX1_isPerson (fun r_3 s_2 => ((r_3 = 0 → (post 0 s_2)) ∧ (¬ r_3 = 0 → (wX1_isTaker_14  post  s_2)))) s0 p0)))
set_option maxHeartbeats 4000000 in
theorem kX1_isTaker_14  {post : Int32 → CS → Prop}  (F : Fx p s m args meth c cX1_isTaker 2 RX1 (some .boolean) D d E A) : ∀  (st : CS) (H : Heap) (locs : List Loc) (ls : Array Slot), wX1_isTaker_14  post  st → Cx D (wM o ad d) A s st H locs → lv_has ls 2 [] → W p l e (headSpec (ws_ yX1_isTaker cX1_isTaker 2 (some .boolean)) rmX1_isTaker).room s m args below meth c H locs 0 0 (QI below D d E (wM o ad d) A args s 0 0 post) (F0 m 14 ls []) := by
  obtain ⟨hx, hb, hr, hml, hown, hts, hlk, hA, hK, hE⟩ := id F
  intro st H locs ls hw C hl
  unfold wX1_isTaker_14 at hw
  refine lv_iconst (v := 1) hx hb dX1_isTaker_14 (by decide) ?_
  refine lv_goto (tgt := 19) hx hb dX1_isTaker_15 (by decide) ?_
  exact x_zret F C zb_1 hw dX1_isTaker_19
theorem ctX1_isTaker (hE : Em E)  {post : Int32 → CS → Prop} {s0 : CS} {p0 : Int32} (hw : wpX1_isTaker  post s0 p0) : CtI l yX1_isTaker (ws_ yX1_isTaker cX1_isTaker 2 (some .boolean)) rmX1_isTaker D d E (wM o ad d) 0 0 [.ref o, .int p0] s0 post := by
  refine CtI.of hE (by decide) rfl (Nat.le_of_ble_eq_true rfl) ?_
  intro p e s m below meth c A ls F C hl
  have hl : lv_has ls 2 [(0, .ref o), (1, .int p0)] := hl
  unfold wpX1_isTaker at hw
  obtain ⟨hx, hb, hr, hml, hown, hts, hlk, hA, hK, -⟩ := id F
  refine lv_iload_n hx hb dX1_isTaker_0 rfl (lv_at hl 1 rfl) ?_
  refine lv_bipush (v := (-9)) hx hb dX1_isTaker_1 (by decide) ?_
  refine lv_icmp_eq (tgt := 14) hx hb dX1_isTaker_3 (by decide) (fun c_1 => ?_) (fun c_1 => ?_)
  · have hw := hw.1 c_1
    exact kX1_isTaker_14  F  s0 _ _ _ hw C (lv_sub hl [] rfl)
  · have hw := hw.2 c_1
    refine lv_aload_n hx hb dX1_isTaker_6 rfl (lv_at hl 0 rfl) ?_
    refine lv_iload_n hx hb dX1_isTaker_7 rfl (lv_at hl 1 rfl) ?_
    refine x_callI (rest := []) (ci := 5) (q := (RX1, TX1, 55)) F C (ctX1_isPerson hE hw) (cwV 1 hts (lw_V q1046 q1048 qs37 q71 q1049) rfl rfl rfl (by decide +kernel) ⟨Nat.le_of_ble_eq_true rfl, Nat.le_of_ble_eq_true rfl⟩) rfl rfl rfl hl.1 rfl (Nat.le_of_ble_eq_true rfl) dX1_isTaker_8 ⟨Nat.zero_le _, Nat.zero_le _⟩ (fun r_3 s_2 H locs hw C => ?_)
    refine lv_if_eq (tgt := 18) hx hb dX1_isTaker_11 (by decide) (fun c_4 => ?_) (fun c_4 => ?_)
    · have hw := hw.1 c_4
      refine lv_iconst (v := 0) hx hb dX1_isTaker_18 (by decide) ?_
      exact x_zret F C zb_0 hw dX1_isTaker_19
    · have hw := hw.2 c_4
      exact kX1_isTaker_14  F  s_2 _ _ _ hw C (lv_sub hl [] rfl)

abbrev rmX1_setOpen : Room := { frames := 0, cells := 0, slots := 0, locals := 0 }
def wX1_setOpen_54  (post : CS → Prop) (k7 : Int32 → CS → Prop) (x1 : Int32) (st : CS) : Prop := (∀ x1_5 : Int32, x1_5 = x1 + 1 → (k7 x1_5 st))
def wX1_setOpen_7  (post : CS → Prop)  : Nat → Int32 → CS → Prop
  | 0 => fun _ _ => False
  | n + 1 => fun x1 st => (((sI st 6) ≤ x1 → (post st)) ∧ (¬ (sI st 6) ≤ x1 → (vp_in x1 40 ∧ (((sA st 7 x1.toNatClampNeg) = 1 → (vp_in x1 40 ∧ (((sA st 13 x1.toNatClampNeg) = 0 → (vp_in (sI st 36) 40 ∧ ∀ s_9 : CS, s_9 = uA st 37 (sI st 36).toNatClampNeg x1 → (∀ s_10 : CS, s_10 = uI s_9 36 ((sI s_9 36) + 1) → (wX1_setOpen_54  post (wX1_setOpen_7  post  n) x1 s_10)))) ∧ (¬ (sA st 13 x1.toNatClampNeg) = 0 → (wX1_setOpen_54  post (wX1_setOpen_7  post  n) x1 st))))) ∧ (¬ (sA st 7 x1.toNatClampNeg) = 1 → (wX1_setOpen_54  post (wX1_setOpen_7  post  n) x1 st))))))
def wpX1_setOpen  (post : CS → Prop) (s0 : CS)  : Prop := (∀ s_1 : CS, s_1 = uI s0 36 0 → (∃ fu : Nat, wX1_setOpen_7  post  fu 0 s_1))
set_option maxHeartbeats 4000000 in
theorem kX1_setOpen_54  {post : CS → Prop} {k7 : Int32 → CS → Prop} (F : Fx p s m args meth c cX1_setOpen 2 RX1 none D d E A) (hk7 : ∀ (x1 : Int32) (st : CS) (H : Heap) (locs : List Loc) (ls : Array Slot), k7 x1 st → Cx D (wM o ad d) A s st H locs → lv_has ls 2 [(0, .ref o), (1, .int x1)] → W p l e (headSpec (ws_ yX1_setOpen cX1_setOpen 2 none) rmX1_setOpen).room s m args below meth c H locs 0 0 (QV below D d E (wM o ad d) A args s 0 0 post) (F0 m 7 ls [])) : ∀ (x1 : Int32) (st : CS) (H : Heap) (locs : List Loc) (ls : Array Slot), wX1_setOpen_54  post k7 x1 st → Cx D (wM o ad d) A s st H locs → lv_has ls 2 [(0, .ref o), (1, .int x1)] → W p l e (headSpec (ws_ yX1_setOpen cX1_setOpen 2 none) rmX1_setOpen).room s m args below meth c H locs 0 0 (QV below D d E (wM o ad d) A args s 0 0 post) (F0 m 54 ls []) := by
  obtain ⟨hx, hb, hr, hml, hown, hts, hlk, hA, hK, hE⟩ := id F
  intro x1 st H locs ls hw C hl
  unfold wX1_setOpen_54 at hw
  obtain ⟨x1_5, ex1_5⟩ : ∃ y : Int32, y = x1 + 1 := ⟨_, rfl⟩
  have hw := hw x1_5 ex1_5
  refine lv_iinc (v := x1_5) (lv' := [(1, .int x1_5), (0, .ref o)]) hx hb dX1_setOpen_54 hl (k := 1) rfl (by rw [ex1_5]; rfl) (by decide) rfl (fun ls hl => ?_)
  refine lv_goto (tgt := 7) hx hb dX1_setOpen_57 (by decide) ?_
  exact hk7 x1_5 st _ _ _ hw C (lv_sub hl [1, 0] rfl)
set_option maxHeartbeats 4000000 in
theorem kX1_setOpen_7  {post : CS → Prop}  (F : Fx p s m args meth c cX1_setOpen 2 RX1 none D d E A) : ∀ (fu : Nat) (x1 : Int32) (st : CS) (H : Heap) (locs : List Loc) (ls : Array Slot), wX1_setOpen_7  post  fu x1 st → Cx D (wM o ad d) A s st H locs → lv_has ls 2 [(0, .ref o), (1, .int x1)] → W p l e (headSpec (ws_ yX1_setOpen cX1_setOpen 2 none) rmX1_setOpen).room s m args below meth c H locs 0 0 (QV below D d E (wM o ad d) A args s 0 0 post) (F0 m 7 ls []) := by
  obtain ⟨hx, hb, hr, hml, hown, hts, hlk, hA, hK, hE⟩ := id F
  intro fu
  induction fu with
  | zero =>
    intro x1 st H locs ls hw
    exact hw.elim
  | succ n ih =>
    have hk7 := ih
    intro x1 st H locs ls hw C hl
    unfold wX1_setOpen_7 at hw
    refine lv_iload_n hx hb dX1_setOpen_7 rfl (lv_at hl 1 rfl) ?_
    refine lv_aload_n hx hb dX1_setOpen_8 rfl (lv_at hl 0 rfl) ?_
    refine x1_g6 F C dX1_setOpen_9 ?_
    refine lv_icmp_ge (tgt := 60) hx hb dX1_setOpen_12 (by decide) (fun c_2 => ?_) (fun c_2 => ?_)
    · have hw := hw.1 c_2
      exact x_vret F C hw dX1_setOpen_60
    · have hw := hw.2 c_2
      refine lv_aload_n hx hb dX1_setOpen_15 rfl (lv_at hl 0 rfl) ?_
      refine x1_g7 F C dX1_setOpen_16 ?_
      refine lv_iload_n hx hb dX1_setOpen_19 rfl (lv_at hl 1 rfl) ?_
      obtain ⟨h_3, hw⟩ := hw
      refine x1_ld7 F C h_3 dX1_setOpen_20 ?_
      refine lv_iconst (v := 1) hx hb dX1_setOpen_21 (by decide) ?_
      refine lv_icmp_ne (tgt := 54) hx hb dX1_setOpen_22 (by decide) (fun c_4 => ?_) (fun c_4 => ?_)
      · have hw := hw.2 c_4
        exact kX1_setOpen_54  F hk7 x1 st _ _ _ hw C hl
      · have hw := hw.1 c_4
        refine lv_aload_n hx hb dX1_setOpen_25 rfl (lv_at hl 0 rfl) ?_
        refine x1_g13 F C dX1_setOpen_26 ?_
        refine lv_iload_n hx hb dX1_setOpen_29 rfl (lv_at hl 1 rfl) ?_
        obtain ⟨h_6, hw⟩ := hw
        refine x1_ld13 F C h_6 dX1_setOpen_30 ?_
        refine lv_if_ne (tgt := 54) hx hb dX1_setOpen_31 (by decide) (fun c_7 => ?_) (fun c_7 => ?_)
        · have hw := hw.2 c_7
          exact kX1_setOpen_54  F hk7 x1 st _ _ _ hw C hl
        · have hw := hw.1 c_7
          refine lv_aload_n hx hb dX1_setOpen_34 rfl (lv_at hl 0 rfl) ?_
          refine x1_g37 F C dX1_setOpen_35 ?_
          refine lv_aload_n hx hb dX1_setOpen_38 rfl (lv_at hl 0 rfl) ?_
          refine x1_g36 F C dX1_setOpen_39 ?_
          refine lv_iload_n hx hb dX1_setOpen_42 rfl (lv_at hl 1 rfl) ?_
          obtain ⟨h_8, hw⟩ := hw
          refine x1_st37 F C h_8 dX1_setOpen_43 (fun H locs s_9 es_9 C => ?_)
          have hw := hw s_9 es_9
          refine lv_aload_n hx hb dX1_setOpen_44 rfl (lv_at hl 0 rfl) ?_
          refine lv_dup hx hb dX1_setOpen_45 rfl ?_
          refine x1_g36 F C dX1_setOpen_46 ?_
          refine lv_iconst (v := 1) hx hb dX1_setOpen_49 (by decide) ?_
          refine lv_iadd hx hb dX1_setOpen_50 ?_
          refine x1_p36 F C dX1_setOpen_51 (fun H locs s_10 es_10 C => ?_)
          have hw := hw s_10 es_10
          exact kX1_setOpen_54  F hk7 x1 s_10 _ _ _ hw C hl
theorem ctX1_setOpen (hE : Em E)  {post : CS → Prop} {s0 : CS}  (hw : wpX1_setOpen  post s0 ) : CtV l yX1_setOpen (ws_ yX1_setOpen cX1_setOpen 2 none) rmX1_setOpen D d E (wM o ad d) 0 0 [.ref o] s0 post := by
  refine CtV.of hE (by decide) rfl (Nat.le_of_ble_eq_true rfl) ?_
  intro p e s m below meth c A ls F C hl
  have hl : lv_has ls 2 [(0, .ref o)] := hl
  unfold wpX1_setOpen at hw
  obtain ⟨hx, hb, hr, hml, hown, hts, hlk, hA, hK, -⟩ := id F
  refine lv_aload_n hx hb dX1_setOpen_0 rfl (lv_at hl 0 rfl) ?_
  refine lv_iconst (v := 0) hx hb dX1_setOpen_1 (by decide) ?_
  refine x1_p36 F C dX1_setOpen_2 (fun H locs s_1 es_1 C => ?_)
  have hw := hw s_1 es_1
  refine lv_iconst (v := 0) hx hb dX1_setOpen_5 (by decide) ?_
  refine lv_istore_n (lv' := [(1, .int 0), (0, .ref o)]) hx hb dX1_setOpen_6 rfl hl (by decide) rfl (fun ls hl => ?_)
  obtain ⟨fu, hw⟩ := hw
  exact kX1_setOpen_7  F  fu 0 s_1 _ _ _ hw C (lv_sub hl [1, 0] rfl)

abbrev rmX1_setOrder : Room := { frames := 0, cells := 0, slots := 0, locals := 0 }
def wX1_setOrder_58  (post : CS → Prop) (k2 : Int32 → CS → Prop) (x1 : Int32) (x2 : Int32) (st : CS) : Prop := (vp_in x2 24 ∧ ∀ s_4 : CS, s_4 = uA st 38 x2.toNatClampNeg x1 → (∀ x1_5 : Int32, x1_5 = x1 + 1 → (k2 x1_5 s_4)))
def wX1_setOrder_12  (post : CS → Prop) (k2 : Int32 → CS → Prop) : Nat → Int32 → Int32 → CS → Prop
  | 0 => fun _ _ _ => False
  | n + 1 => fun x1 x2 st => ((x2 ≤ 0 → (wX1_setOrder_58  post k2 x1 x2 st)) ∧ (¬ x2 ≤ 0 → (vp_in (x2 - 1) 24 ∧ (vp_in (sA st 38 (x2 - 1).toNatClampNeg) 24 ∧ (vp_in x1 24 ∧ (((sA st 4 x1.toNatClampNeg) ≤ (sA st 4 (sA st 38 (x2 - 1).toNatClampNeg).toNatClampNeg) → (wX1_setOrder_58  post k2 x1 x2 st)) ∧ (¬ (sA st 4 x1.toNatClampNeg) ≤ (sA st 4 (sA st 38 (x2 - 1).toNatClampNeg).toNatClampNeg) → (vp_in (x2 - 1) 24 ∧ (vp_in x2 24 ∧ ∀ s_12 : CS, s_12 = uA st 38 x2.toNatClampNeg (sA st 38 (x2 - 1).toNatClampNeg) → (∀ x2_13 : Int32, x2_13 = x2 + (-1) → (wX1_setOrder_12  post k2 n x1 x2_13 s_12)))))))))))
def wX1_setOrder_2  (post : CS → Prop)  : Nat → Int32 → CS → Prop
  | 0 => fun _ _ => False
  | n + 1 => fun x1 st => (((sI st 2) ≤ x1 → (post st)) ∧ (¬ (sI st 2) ≤ x1 → (∃ fu : Nat, wX1_setOrder_12  post (wX1_setOrder_2  post  n) fu x1 x1 st)))
def wpX1_setOrder  (post : CS → Prop) (s0 : CS)  : Prop := (∃ fu : Nat, wX1_setOrder_2  post  fu 0 s0)
set_option maxHeartbeats 4000000 in
theorem kX1_setOrder_58  {post : CS → Prop} {k2 : Int32 → CS → Prop} (F : Fx p s m args meth c cX1_setOrder 3 RX1 none D d E A) (hk2 : ∀ (x1 : Int32) (st : CS) (H : Heap) (locs : List Loc) (ls : Array Slot), k2 x1 st → Cx D (wM o ad d) A s st H locs → lv_has ls 3 [(0, .ref o), (1, .int x1)] → W p l e (headSpec (ws_ yX1_setOrder cX1_setOrder 3 none) rmX1_setOrder).room s m args below meth c H locs 0 0 (QV below D d E (wM o ad d) A args s 0 0 post) (F0 m 2 ls [])) : ∀ (x1 : Int32) (x2 : Int32) (st : CS) (H : Heap) (locs : List Loc) (ls : Array Slot), wX1_setOrder_58  post k2 x1 x2 st → Cx D (wM o ad d) A s st H locs → lv_has ls 3 [(0, .ref o), (1, .int x1), (2, .int x2)] → W p l e (headSpec (ws_ yX1_setOrder cX1_setOrder 3 none) rmX1_setOrder).room s m args below meth c H locs 0 0 (QV below D d E (wM o ad d) A args s 0 0 post) (F0 m 58 ls []) := by
  obtain ⟨hx, hb, hr, hml, hown, hts, hlk, hA, hK, hE⟩ := id F
  intro x1 x2 st H locs ls hw C hl
  unfold wX1_setOrder_58 at hw
  refine lv_aload_n hx hb dX1_setOrder_58 rfl (lv_at hl 0 rfl) ?_
  refine x1_g38 F C dX1_setOrder_59 ?_
  refine lv_iload_n hx hb dX1_setOrder_62 rfl (lv_at hl 2 rfl) ?_
  refine lv_iload_n hx hb dX1_setOrder_63 rfl (lv_at hl 1 rfl) ?_
  obtain ⟨h_3, hw⟩ := hw
  refine x1_st38 F C h_3 dX1_setOrder_64 (fun H locs s_4 es_4 C => ?_)
  have hw := hw s_4 es_4
  obtain ⟨x1_5, ex1_5⟩ : ∃ y : Int32, y = x1 + 1 := ⟨_, rfl⟩
  have hw := hw x1_5 ex1_5
  refine lv_iinc (v := x1_5) (lv' := [(1, .int x1_5), (0, .ref o), (2, .int x2)]) hx hb dX1_setOrder_65 hl (k := 1) rfl (by rw [ex1_5]; rfl) (by decide) rfl (fun ls hl => ?_)
  refine lv_goto (tgt := 2) hx hb dX1_setOrder_68 (by decide) ?_
  exact hk2 x1_5 s_4 _ _ _ hw C (lv_sub hl [1, 0] rfl)
set_option maxHeartbeats 4000000 in
theorem kX1_setOrder_12  {post : CS → Prop} {k2 : Int32 → CS → Prop} (F : Fx p s m args meth c cX1_setOrder 3 RX1 none D d E A) (hk2 : ∀ (x1 : Int32) (st : CS) (H : Heap) (locs : List Loc) (ls : Array Slot), k2 x1 st → Cx D (wM o ad d) A s st H locs → lv_has ls 3 [(0, .ref o), (1, .int x1)] → W p l e (headSpec (ws_ yX1_setOrder cX1_setOrder 3 none) rmX1_setOrder).room s m args below meth c H locs 0 0 (QV below D d E (wM o ad d) A args s 0 0 post) (F0 m 2 ls [])) : ∀ (fu : Nat) (x1 : Int32) (x2 : Int32) (st : CS) (H : Heap) (locs : List Loc) (ls : Array Slot), wX1_setOrder_12  post k2 fu x1 x2 st → Cx D (wM o ad d) A s st H locs → lv_has ls 3 [(0, .ref o), (1, .int x1), (2, .int x2)] → W p l e (headSpec (ws_ yX1_setOrder cX1_setOrder 3 none) rmX1_setOrder).room s m args below meth c H locs 0 0 (QV below D d E (wM o ad d) A args s 0 0 post) (F0 m 12 ls []) := by
  obtain ⟨hx, hb, hr, hml, hown, hts, hlk, hA, hK, hE⟩ := id F
  intro fu
  induction fu with
  | zero =>
    intro x1 x2 st H locs ls hw
    exact hw.elim
  | succ n ih =>
    have hk12 := ih
    intro x1 x2 st H locs ls hw C hl
    unfold wX1_setOrder_12 at hw
    refine lv_iload_n hx hb dX1_setOrder_12 rfl (lv_at hl 2 rfl) ?_
    refine lv_if_le (tgt := 58) hx hb dX1_setOrder_13 (by decide) (fun c_2 => ?_) (fun c_2 => ?_)
    · have hw := hw.1 c_2
      exact kX1_setOrder_58  F hk2 x1 x2 st _ _ _ hw C hl
    · have hw := hw.2 c_2
      refine lv_aload_n hx hb dX1_setOrder_16 rfl (lv_at hl 0 rfl) ?_
      refine x1_g4 F C dX1_setOrder_17 ?_
      refine lv_aload_n hx hb dX1_setOrder_20 rfl (lv_at hl 0 rfl) ?_
      refine x1_g38 F C dX1_setOrder_21 ?_
      refine lv_iload_n hx hb dX1_setOrder_24 rfl (lv_at hl 2 rfl) ?_
      refine lv_iconst (v := 1) hx hb dX1_setOrder_25 (by decide) ?_
      refine lv_isub hx hb dX1_setOrder_26 ?_
      obtain ⟨h_6, hw⟩ := hw
      refine x1_ld38 F C h_6 dX1_setOrder_27 ?_
      obtain ⟨h_7, hw⟩ := hw
      refine x1_ld4 F C h_7 dX1_setOrder_28 ?_
      refine lv_aload_n hx hb dX1_setOrder_29 rfl (lv_at hl 0 rfl) ?_
      refine x1_g4 F C dX1_setOrder_30 ?_
      refine lv_iload_n hx hb dX1_setOrder_33 rfl (lv_at hl 1 rfl) ?_
      obtain ⟨h_8, hw⟩ := hw
      refine x1_ld4 F C h_8 dX1_setOrder_34 ?_
      refine lv_icmp_ge (tgt := 58) hx hb dX1_setOrder_35 (by decide) (fun c_9 => ?_) (fun c_9 => ?_)
      · have hw := hw.1 c_9
        exact kX1_setOrder_58  F hk2 x1 x2 st _ _ _ hw C hl
      · have hw := hw.2 c_9
        refine lv_aload_n hx hb dX1_setOrder_38 rfl (lv_at hl 0 rfl) ?_
        refine x1_g38 F C dX1_setOrder_39 ?_
        refine lv_iload_n hx hb dX1_setOrder_42 rfl (lv_at hl 2 rfl) ?_
        refine lv_aload_n hx hb dX1_setOrder_43 rfl (lv_at hl 0 rfl) ?_
        refine x1_g38 F C dX1_setOrder_44 ?_
        refine lv_iload_n hx hb dX1_setOrder_47 rfl (lv_at hl 2 rfl) ?_
        refine lv_iconst (v := 1) hx hb dX1_setOrder_48 (by decide) ?_
        refine lv_isub hx hb dX1_setOrder_49 ?_
        obtain ⟨h_10, hw⟩ := hw
        refine x1_ld38 F C h_10 dX1_setOrder_50 ?_
        obtain ⟨h_11, hw⟩ := hw
        refine x1_st38 F C h_11 dX1_setOrder_51 (fun H locs s_12 es_12 C => ?_)
        have hw := hw s_12 es_12
        obtain ⟨x2_13, ex2_13⟩ : ∃ y : Int32, y = x2 + (-1) := ⟨_, rfl⟩
        have hw := hw x2_13 ex2_13
        refine lv_iinc (v := x2_13) (lv' := [(2, .int x2_13), (0, .ref o), (1, .int x1)]) hx hb dX1_setOrder_52 hl (k := 2) rfl (by rw [ex2_13]; rfl) (by decide) rfl (fun ls hl => ?_)
        refine lv_goto (tgt := 12) hx hb dX1_setOrder_55 (by decide) ?_
        exact hk12 x1 x2_13 s_12 _ _ _ hw C (lv_sub hl [1, 2, 0] rfl)
set_option maxHeartbeats 4000000 in
theorem kX1_setOrder_2  {post : CS → Prop}  (F : Fx p s m args meth c cX1_setOrder 3 RX1 none D d E A) : ∀ (fu : Nat) (x1 : Int32) (st : CS) (H : Heap) (locs : List Loc) (ls : Array Slot), wX1_setOrder_2  post  fu x1 st → Cx D (wM o ad d) A s st H locs → lv_has ls 3 [(0, .ref o), (1, .int x1)] → W p l e (headSpec (ws_ yX1_setOrder cX1_setOrder 3 none) rmX1_setOrder).room s m args below meth c H locs 0 0 (QV below D d E (wM o ad d) A args s 0 0 post) (F0 m 2 ls []) := by
  obtain ⟨hx, hb, hr, hml, hown, hts, hlk, hA, hK, hE⟩ := id F
  intro fu
  induction fu with
  | zero =>
    intro x1 st H locs ls hw
    exact hw.elim
  | succ n ih =>
    have hk2 := ih
    intro x1 st H locs ls hw C hl
    unfold wX1_setOrder_2 at hw
    refine lv_iload_n hx hb dX1_setOrder_2 rfl (lv_at hl 1 rfl) ?_
    refine lv_aload_n hx hb dX1_setOrder_3 rfl (lv_at hl 0 rfl) ?_
    refine x1_g2 F C dX1_setOrder_4 ?_
    refine lv_icmp_ge (tgt := 71) hx hb dX1_setOrder_7 (by decide) (fun c_1 => ?_) (fun c_1 => ?_)
    · have hw := hw.1 c_1
      exact x_vret F C hw dX1_setOrder_71
    · have hw := hw.2 c_1
      refine lv_iload_n hx hb dX1_setOrder_10 rfl (lv_at hl 1 rfl) ?_
      refine lv_istore_n (lv' := [(2, .int x1), (0, .ref o), (1, .int x1)]) hx hb dX1_setOrder_11 rfl hl (by decide) rfl (fun ls hl => ?_)
      obtain ⟨fu, hw⟩ := hw
      exact kX1_setOrder_12  F hk2 fu x1 x1 st _ _ _ hw C (lv_sub hl [1, 2, 0] rfl)
theorem ctX1_setOrder (hE : Em E)  {post : CS → Prop} {s0 : CS}  (hw : wpX1_setOrder  post s0 ) : CtV l yX1_setOrder (ws_ yX1_setOrder cX1_setOrder 3 none) rmX1_setOrder D d E (wM o ad d) 0 0 [.ref o] s0 post := by
  refine CtV.of hE (by decide) rfl (Nat.le_of_ble_eq_true rfl) ?_
  intro p e s m below meth c A ls F C hl
  have hl : lv_has ls 3 [(0, .ref o)] := hl
  unfold wpX1_setOrder at hw
  obtain ⟨hx, hb, hr, hml, hown, hts, hlk, hA, hK, -⟩ := id F
  refine lv_iconst (v := 0) hx hb dX1_setOrder_0 (by decide) ?_
  refine lv_istore_n (lv' := [(1, .int 0), (0, .ref o)]) hx hb dX1_setOrder_1 rfl hl (by decide) rfl (fun ls hl => ?_)
  obtain ⟨fu, hw⟩ := hw
  exact kX1_setOrder_2  F  fu 0 s0 _ _ _ hw C (lv_sub hl [1, 0] rfl)

abbrev rmX1_begin : Room := { frames := 1, cells := 0, slots := 0, locals := 24 }
def wX1_begin_394  (post : CS → Prop) (k268 : Int32 → Int32 → CS → Prop) (k289 : Int32 → Int32 → Int32 → Int32 → CS → Prop) (x1 : Int32) (x4 : Int32) (x5 : Int32) (x6 : Int32) (y0 : Int32) (y1 : Int32) (st : CS) : Prop := (vp_in y1 24 ∧ ∀ s_22 : CS, s_22 = uA st 35 y1.toNatClampNeg (vp_nar .boolean y0) → (∀ x6_23 : Int32, x6_23 = x6 + 1 → (k289 x1 x4 x5 x6_23 s_22)))
def wX1_begin_389  (post : CS → Prop) (k268 : Int32 → Int32 → CS → Prop) (k289 : Int32 → Int32 → Int32 → Int32 → CS → Prop) (x1 : Int32) (x4 : Int32) (x5 : Int32) (x6 : Int32) (y0 : Int32) (st : CS) : Prop := (wX1_begin_394  post k268 k289 x1 x4 x5 x6 1 y0 st)
def wX1_begin_393  (post : CS → Prop) (k268 : Int32 → Int32 → CS → Prop) (k289 : Int32 → Int32 → Int32 → Int32 → CS → Prop) (x1 : Int32) (x4 : Int32) (x5 : Int32) (x6 : Int32) (y0 : Int32) (st : CS) : Prop := (wX1_begin_394  post k268 k289 x1 x4 x5 x6 0 y0 st)
def wX1_begin_336  (post : CS → Prop) (k268 : Int32 → Int32 → CS → Prop) (k289 : Int32 → Int32 → Int32 → Int32 → CS → Prop) (x1 : Int32) (x4 : Int32) (x5 : Int32) (x6 : Int32) (y0 : Int32) (st : CS) : Prop := (vp_in x5 24 ∧ (((sA st 35 x5.toNatClampNeg) = 0 → ((y0 = 0 → (wX1_begin_393  post k268 k289 x1 x4 x5 x6 x5 st)) ∧ (¬ y0 = 0 → (vp_in x6 40 ∧ (vp_in (sA st 9 x6.toNatClampNeg) 24 ∧ (((sA st 34 (sA st 9 x6.toNatClampNeg).toNatClampNeg) = 0 → (vp_in x6 40 ∧ (vp_in (sA st 9 x6.toNatClampNeg) 24 ∧ (((sA st 35 (sA st 9 x6.toNatClampNeg).toNatClampNeg) = 0 → (wX1_begin_393  post k268 k289 x1 x4 x5 x6 x5 st)) ∧ (¬ (sA st 35 (sA st 9 x6.toNatClampNeg).toNatClampNeg) = 0 → (wX1_begin_389  post k268 k289 x1 x4 x5 x6 x5 st)))))) ∧ (¬ (sA st 34 (sA st 9 x6.toNatClampNeg).toNatClampNeg) = 0 → (wX1_begin_389  post k268 k289 x1 x4 x5 x6 x5 st)))))))) ∧ (¬ (sA st 35 x5.toNatClampNeg) = 0 → (wX1_begin_389  post k268 k289 x1 x4 x5 x6 x5 st))))
def wX1_begin_335  (post : CS → Prop) (k268 : Int32 → Int32 → CS → Prop) (k289 : Int32 → Int32 → Int32 → Int32 → CS → Prop) (x1 : Int32) (x4 : Int32) (x5 : Int32) (x6 : Int32) (st : CS) : Prop := (wX1_begin_336  post k268 k289 x1 x4 x5 x6 0 st)
def wX1_begin_289  (post : CS → Prop) (k268 : Int32 → Int32 → CS → Prop) : Nat → Int32 → Int32 → Int32 → Int32 → CS → Prop
  | 0 => fun _ _ _ _ _ => False
  | n + 1 => fun x1 x4 x5 x6 st => (((sI st 6) ≤ x6 → (∀ x4_16 : Int32, x4_16 = x4 + 1 → (k268 x1 x4_16 st))) ∧ (¬ (sI st 6) ≤ x6 → (vp_in x6 40 ∧ (((sA st 33 x6.toNatClampNeg) = 0 → (wX1_begin_335  post k268 (wX1_begin_289  post k268 n) x1 x4 x5 x6 st)) ∧ (¬ (sA st 33 x6.toNatClampNeg) = 0 → (vp_in x6 40 ∧ (((sA st 8 x6.toNatClampNeg) = x5 → (vp_in x6 40 ∧ (((sA st 9 x6.toNatClampNeg) = x1 → (wX1_begin_335  post k268 (wX1_begin_289  post k268 n) x1 x4 x5 x6 st)) ∧ (¬ (sA st 9 x6.toNatClampNeg) = x1 → (wX1_begin_336  post k268 (wX1_begin_289  post k268 n) x1 x4 x5 x6 1 st))))) ∧ (¬ (sA st 8 x6.toNatClampNeg) = x5 → (wX1_begin_335  post k268 (wX1_begin_289  post k268 n) x1 x4 x5 x6 st)))))))))
def wX1_begin_268  (post : CS → Prop)  : Nat → Int32 → Int32 → CS → Prop
  | 0 => fun _ _ _ => False
  | n + 1 => fun x1 x4 st => (((sI st 2) ≤ x4 → (post st)) ∧ (¬ (sI st 2) ≤ x4 → (vp_in x4 24 ∧ (∀ x5_14 : Int32, x5_14 = (sA st 38 x4.toNatClampNeg) → (∃ fu : Nat, wX1_begin_289  post (wX1_begin_268  post  n) fu x1 x4 x5_14 0 st)))))
def wX1_begin_246  (post : CS → Prop) (k180 : Int32 → Int32 → CS → Prop) (x1 : Int32) (x4 : Int32) (y0 : Int32) (y1 : Int32) (st : CS) : Prop := (vp_in y1 24 ∧ ∀ s_37 : CS, s_37 = uA st 34 y1.toNatClampNeg (vp_nar .boolean y0) → (vp_in x4 24 ∧ ∀ s_39 : CS, s_39 = uA s_37 35 x4.toNatClampNeg (vp_nar .boolean 0) → (∀ x4_40 : Int32, x4_40 = x4 + 1 → (k180 x1 x4_40 s_39))))
def wX1_begin_245  (post : CS → Prop) (k180 : Int32 → Int32 → CS → Prop) (x1 : Int32) (x4 : Int32) (y0 : Int32) (st : CS) : Prop := (wX1_begin_246  post k180 x1 x4 0 y0 st)
def wX1_begin_241  (post : CS → Prop) (k180 : Int32 → Int32 → CS → Prop) (x1 : Int32) (x4 : Int32) (y0 : Int32) (st : CS) : Prop := (wX1_begin_246  post k180 x1 x4 1 y0 st)
def wX1_begin_180  (post : CS → Prop)  : Nat → Int32 → Int32 → CS → Prop
  | 0 => fun _ _ _ => False
  | n + 1 => fun x1 x4 st => (((sI st 2) ≤ x4 → (wpX1_setOrder (fun s_10 => (∃ fu : Nat, wX1_begin_268  post  fu x1 0 s_10)) st )) ∧ (¬ (sI st 2) ≤ x4 → ((x4 = x1 → (wX1_begin_245  post (wX1_begin_180  post  n) x1 x4 x4 st)) ∧ (¬ x4 = x1 → (vp_in x4 24 ∧ (((sI st 31) < (sA st 4 x4.toNatClampNeg) → (wX1_begin_245  post (wX1_begin_180  post  n) x1 x4 x4 st)) ∧ (¬ (sI st 31) < (sA st 4 x4.toNatClampNeg) → (vp_in x4 24 ∧ (((sA st 5 x4.toNatClampNeg) = (-9) → (wX1_begin_241  post (wX1_begin_180  post  n) x1 x4 x4 st)) ∧ (¬ (sA st 5 x4.toNatClampNeg) = (-9) → (vp_in x4 24 ∧ (((sA st 5 x4.toNatClampNeg) ≤ (sI st 31) → (wX1_begin_245  post (wX1_begin_180  post  n) x1 x4 x4 st)) ∧ (¬ (sA st 5 x4.toNatClampNeg) ≤ (sI st 31) → (wX1_begin_241  post (wX1_begin_180  post  n) x1 x4 x4 st))))))))))))))
def wX1_begin_177  (post : CS → Prop)  (x1 : Int32) (st : CS) : Prop := (∃ fu : Nat, wX1_begin_180  post  fu x1 0 st)
def wX1_begin_170  (post : CS → Prop) (k131 : Int32 → Int32 → Int32 → Int32 → CS → Prop) (x1 : Int32) (x2 : Int32) (x3 : Int32) (x4 : Int32) (y0 : Int32) (y1 : Int32) (st : CS) : Prop := (vp_in y1 40 ∧ ∀ s_51 : CS, s_51 = uA st 33 y1.toNatClampNeg (vp_nar .boolean y0) → (∀ x4_52 : Int32, x4_52 = x4 + 1 → (k131 x1 x2 x3 x4_52 s_51)))
def wX1_begin_131  (post : CS → Prop)  : Nat → Int32 → Int32 → Int32 → Int32 → CS → Prop
  | 0 => fun _ _ _ _ _ => False
  | n + 1 => fun x1 x2 x3 x4 st => (((sI st 36) ≤ x4 → (wX1_begin_177  post  x1 st)) ∧ (¬ (sI st 36) ≤ x4 → ((x2 = 0 → (vp_in x4 40 ∧ ((((x3 >>> (x4 &&& 31)) &&& 1) = 1 → (wX1_begin_170  post (wX1_begin_131  post  n) x1 x2 x3 x4 1 (sA st 37 x4.toNatClampNeg) st)) ∧ (¬ ((x3 >>> (x4 &&& 31)) &&& 1) = 1 → (wX1_begin_170  post (wX1_begin_131  post  n) x1 x2 x3 x4 0 (sA st 37 x4.toNatClampNeg) st))))) ∧ (¬ x2 = 0 → (wX1_begin_177  post  x1 st)))))
def wX1_begin_121  (post : CS → Prop) (k27 : Int32 → Int32 → Int32 → Int32 → CS → Prop) (x1 : Int32) (x2 : Int32) (x3 : Int32) (x4 : Int32) (y0 : Int32) (y1 : Int32) (st : CS) : Prop := (vp_in y1 40 ∧ ∀ s_58 : CS, s_58 = uA st 33 y1.toNatClampNeg (vp_nar .boolean y0) → (∀ x4_59 : Int32, x4_59 = x4 + 1 → (k27 x1 x2 x3 x4_59 s_58)))
def wX1_begin_120  (post : CS → Prop) (k27 : Int32 → Int32 → Int32 → Int32 → CS → Prop) (x1 : Int32) (x2 : Int32) (x3 : Int32) (x4 : Int32) (y0 : Int32) (st : CS) : Prop := (wX1_begin_121  post k27 x1 x2 x3 x4 0 y0 st)
def wX1_begin_116  (post : CS → Prop) (k27 : Int32 → Int32 → Int32 → Int32 → CS → Prop) (x1 : Int32) (x2 : Int32) (x3 : Int32) (x4 : Int32) (y0 : Int32) (st : CS) : Prop := (wX1_begin_121  post k27 x1 x2 x3 x4 1 y0 st)
def wX1_begin_78  (post : CS → Prop) (k27 : Int32 → Int32 → Int32 → Int32 → CS → Prop) (x1 : Int32) (x2 : Int32) (x3 : Int32) (x4 : Int32) (y0 : Int32) (st : CS) : Prop := (vp_in x4 40 ∧ (((sA st 13 x4.toNatClampNeg) = 0 → ((y0 = 0 → (wX1_begin_120  post k27 x1 x2 x3 x4 x4 st)) ∧ (¬ y0 = 0 → (vp_in x4 40 ∧ (((sA st 7 x4.toNatClampNeg) = 1 → ((x2 = 0 → (wX1_begin_120  post k27 x1 x2 x3 x4 x4 st)) ∧ (¬ x2 = 0 → (wX1_begin_116  post k27 x1 x2 x3 x4 x4 st)))) ∧ (¬ (sA st 7 x4.toNatClampNeg) = 1 → (wX1_begin_116  post k27 x1 x2 x3 x4 x4 st))))))) ∧ (¬ (sA st 13 x4.toNatClampNeg) = 0 → (wX1_begin_120  post k27 x1 x2 x3 x4 x4 st))))
def wX1_begin_73  (post : CS → Prop) (k27 : Int32 → Int32 → Int32 → Int32 → CS → Prop) (x1 : Int32) (x2 : Int32) (x3 : Int32) (x4 : Int32) (st : CS) : Prop := (wX1_begin_78  post k27 x1 x2 x3 x4 1 st)
def wX1_begin_77  (post : CS → Prop) (k27 : Int32 → Int32 → Int32 → Int32 → CS → Prop) (x1 : Int32) (x2 : Int32) (x3 : Int32) (x4 : Int32) (st : CS) : Prop := (wX1_begin_78  post k27 x1 x2 x3 x4 0 st)
def wX1_begin_27  (post : CS → Prop)  : Nat → Int32 → Int32 → Int32 → Int32 → CS → Prop
  | 0 => fun _ _ _ _ _ => False
  | n + 1 => fun x1 x2 x3 x4 st => (((sI st 6) ≤ x4 → (∃ fu : Nat, wX1_begin_131  post  fu x1 x2 x3 0 st)) ∧ (¬ (sI st 6) ≤ x4 → (vp_in x4 40 ∧ (((sA st 7 x4.toNatClampNeg) = 3 → (vp_in (sI st 32) 16 ∧ (((sA st 24 (sI st 32).toNatClampNeg) = 0 → (wX1_begin_77  post (wX1_begin_27  post  n) x1 x2 x3 x4 st)) ∧ (¬ (sA st 24 (sI st 32).toNatClampNeg) = 0 → (vp_in x4 40 ∧ (((sI st 31) < (sA st 10 x4.toNatClampNeg) → (wX1_begin_77  post (wX1_begin_27  post  n) x1 x2 x3 x4 st)) ∧ (¬ (sI st 31) < (sA st 10 x4.toNatClampNeg) → (wX1_begin_73  post (wX1_begin_27  post  n) x1 x2 x3 x4 st)))))))) ∧ (¬ (sA st 7 x4.toNatClampNeg) = 3 → (wX1_begin_73  post (wX1_begin_27  post  n) x1 x2 x3 x4 st))))))
def wpX1_begin  (post : CS → Prop) (s0 : CS) (p0 : Int32) (p1 : Int32) (p2 : Int32) : Prop := (∀ s_1 : CS, s_1 = uI s0 30 p0 → (vp_in p0 24 ∧ (∀ s_3 : CS, s_3 = uI s_1 31 (sA s_1 5 p0.toNatClampNeg) → (wpX1_lawFor (fun r_5 s_4 => (∀ s_6 : CS, s_6 = uI s_4 32 r_5 → (∃ fu : Nat, wX1_begin_27  post  fu p0 p1 p2 0 s_6))) s_3 p0))))
set_option maxHeartbeats 4000000 in
theorem kX1_begin_394  {post : CS → Prop} {k268 : Int32 → Int32 → CS → Prop} {k289 : Int32 → Int32 → Int32 → Int32 → CS → Prop} (F : Fx p s m args meth c cX1_begin 8 RX1 none D d E A) (hk268 : ∀ (x1 : Int32) (x4 : Int32) (st : CS) (H : Heap) (locs : List Loc) (ls : Array Slot), k268 x1 x4 st → Cx D (wM o ad d) A s st H locs → lv_has ls 8 [(0, .ref o), (1, .int x1), (4, .int x4)] → W p l e (headSpec (ws_ yX1_begin cX1_begin 8 none) rmX1_begin).room s m args below meth c H locs 0 0 (QV below D d E (wM o ad d) A args s 0 0 post) (F0 m 268 ls [])) (hk289 : ∀ (x1 : Int32) (x4 : Int32) (x5 : Int32) (x6 : Int32) (st : CS) (H : Heap) (locs : List Loc) (ls : Array Slot), k289 x1 x4 x5 x6 st → Cx D (wM o ad d) A s st H locs → lv_has ls 8 [(0, .ref o), (1, .int x1), (4, .int x4), (5, .int x5), (6, .int x6)] → W p l e (headSpec (ws_ yX1_begin cX1_begin 8 none) rmX1_begin).room s m args below meth c H locs 0 0 (QV below D d E (wM o ad d) A args s 0 0 post) (F0 m 289 ls [])) : ∀ (x1 : Int32) (x4 : Int32) (x5 : Int32) (x6 : Int32) (y0 : Int32) (y1 : Int32) (st : CS) (H : Heap) (locs : List Loc) (ls : Array Slot), wX1_begin_394  post k268 k289 x1 x4 x5 x6 y0 y1 st → Cx D (wM o ad d) A s st H locs → lv_has ls 8 [(0, .ref o), (1, .int x1), (4, .int x4), (5, .int x5), (6, .int x6)] → W p l e (headSpec (ws_ yX1_begin cX1_begin 8 none) rmX1_begin).room s m args below meth c H locs 0 0 (QV below D d E (wM o ad d) A args s 0 0 post) (F0 m 394 ls [.int y0, .int y1, .ref (ad 35)]) := by
  obtain ⟨hx, hb, hr, hml, hown, hts, hlk, hA, hK, hE⟩ := id F
  intro x1 x4 x5 x6 y0 y1 st H locs ls hw C hl
  unfold wX1_begin_394 at hw
  obtain ⟨h_21, hw⟩ := hw
  refine x1_st35 F C h_21 dX1_begin_394 (fun H locs s_22 es_22 C => ?_)
  have hw := hw s_22 es_22
  obtain ⟨x6_23, ex6_23⟩ : ∃ y : Int32, y = x6 + 1 := ⟨_, rfl⟩
  have hw := hw x6_23 ex6_23
  refine lv_iinc (v := x6_23) (lv' := [(6, .int x6_23), (0, .ref o), (1, .int x1), (4, .int x4), (5, .int x5)]) hx hb dX1_begin_395 hl (k := 4) rfl (by rw [ex6_23]; rfl) (by decide) rfl (fun ls hl => ?_)
  refine lv_goto (tgt := 289) hx hb dX1_begin_398 (by decide) ?_
  exact hk289 x1 x4 x5 x6_23 s_22 _ _ _ hw C (lv_sub hl [1, 2, 3, 4, 0] rfl)
set_option maxHeartbeats 4000000 in
theorem kX1_begin_389  {post : CS → Prop} {k268 : Int32 → Int32 → CS → Prop} {k289 : Int32 → Int32 → Int32 → Int32 → CS → Prop} (F : Fx p s m args meth c cX1_begin 8 RX1 none D d E A) (hk268 : ∀ (x1 : Int32) (x4 : Int32) (st : CS) (H : Heap) (locs : List Loc) (ls : Array Slot), k268 x1 x4 st → Cx D (wM o ad d) A s st H locs → lv_has ls 8 [(0, .ref o), (1, .int x1), (4, .int x4)] → W p l e (headSpec (ws_ yX1_begin cX1_begin 8 none) rmX1_begin).room s m args below meth c H locs 0 0 (QV below D d E (wM o ad d) A args s 0 0 post) (F0 m 268 ls [])) (hk289 : ∀ (x1 : Int32) (x4 : Int32) (x5 : Int32) (x6 : Int32) (st : CS) (H : Heap) (locs : List Loc) (ls : Array Slot), k289 x1 x4 x5 x6 st → Cx D (wM o ad d) A s st H locs → lv_has ls 8 [(0, .ref o), (1, .int x1), (4, .int x4), (5, .int x5), (6, .int x6)] → W p l e (headSpec (ws_ yX1_begin cX1_begin 8 none) rmX1_begin).room s m args below meth c H locs 0 0 (QV below D d E (wM o ad d) A args s 0 0 post) (F0 m 289 ls [])) : ∀ (x1 : Int32) (x4 : Int32) (x5 : Int32) (x6 : Int32) (y0 : Int32) (st : CS) (H : Heap) (locs : List Loc) (ls : Array Slot), wX1_begin_389  post k268 k289 x1 x4 x5 x6 y0 st → Cx D (wM o ad d) A s st H locs → lv_has ls 8 [(0, .ref o), (1, .int x1), (4, .int x4), (5, .int x5), (6, .int x6)] → W p l e (headSpec (ws_ yX1_begin cX1_begin 8 none) rmX1_begin).room s m args below meth c H locs 0 0 (QV below D d E (wM o ad d) A args s 0 0 post) (F0 m 389 ls [.int y0, .ref (ad 35)]) := by
  obtain ⟨hx, hb, hr, hml, hown, hts, hlk, hA, hK, hE⟩ := id F
  intro x1 x4 x5 x6 y0 st H locs ls hw C hl
  unfold wX1_begin_389 at hw
  refine lv_iconst (v := 1) hx hb dX1_begin_389 (by decide) ?_
  refine lv_goto (tgt := 394) hx hb dX1_begin_390 (by decide) ?_
  exact kX1_begin_394  F hk268 hk289 x1 x4 x5 x6 1 y0 st _ _ _ hw C hl
set_option maxHeartbeats 4000000 in
theorem kX1_begin_393  {post : CS → Prop} {k268 : Int32 → Int32 → CS → Prop} {k289 : Int32 → Int32 → Int32 → Int32 → CS → Prop} (F : Fx p s m args meth c cX1_begin 8 RX1 none D d E A) (hk268 : ∀ (x1 : Int32) (x4 : Int32) (st : CS) (H : Heap) (locs : List Loc) (ls : Array Slot), k268 x1 x4 st → Cx D (wM o ad d) A s st H locs → lv_has ls 8 [(0, .ref o), (1, .int x1), (4, .int x4)] → W p l e (headSpec (ws_ yX1_begin cX1_begin 8 none) rmX1_begin).room s m args below meth c H locs 0 0 (QV below D d E (wM o ad d) A args s 0 0 post) (F0 m 268 ls [])) (hk289 : ∀ (x1 : Int32) (x4 : Int32) (x5 : Int32) (x6 : Int32) (st : CS) (H : Heap) (locs : List Loc) (ls : Array Slot), k289 x1 x4 x5 x6 st → Cx D (wM o ad d) A s st H locs → lv_has ls 8 [(0, .ref o), (1, .int x1), (4, .int x4), (5, .int x5), (6, .int x6)] → W p l e (headSpec (ws_ yX1_begin cX1_begin 8 none) rmX1_begin).room s m args below meth c H locs 0 0 (QV below D d E (wM o ad d) A args s 0 0 post) (F0 m 289 ls [])) : ∀ (x1 : Int32) (x4 : Int32) (x5 : Int32) (x6 : Int32) (y0 : Int32) (st : CS) (H : Heap) (locs : List Loc) (ls : Array Slot), wX1_begin_393  post k268 k289 x1 x4 x5 x6 y0 st → Cx D (wM o ad d) A s st H locs → lv_has ls 8 [(0, .ref o), (1, .int x1), (4, .int x4), (5, .int x5), (6, .int x6)] → W p l e (headSpec (ws_ yX1_begin cX1_begin 8 none) rmX1_begin).room s m args below meth c H locs 0 0 (QV below D d E (wM o ad d) A args s 0 0 post) (F0 m 393 ls [.int y0, .ref (ad 35)]) := by
  obtain ⟨hx, hb, hr, hml, hown, hts, hlk, hA, hK, hE⟩ := id F
  intro x1 x4 x5 x6 y0 st H locs ls hw C hl
  unfold wX1_begin_393 at hw
  refine lv_iconst (v := 0) hx hb dX1_begin_393 (by decide) ?_
  exact kX1_begin_394  F hk268 hk289 x1 x4 x5 x6 0 y0 st _ _ _ hw C hl
set_option maxHeartbeats 4000000 in
theorem kX1_begin_336  {post : CS → Prop} {k268 : Int32 → Int32 → CS → Prop} {k289 : Int32 → Int32 → Int32 → Int32 → CS → Prop} (F : Fx p s m args meth c cX1_begin 8 RX1 none D d E A) (hk268 : ∀ (x1 : Int32) (x4 : Int32) (st : CS) (H : Heap) (locs : List Loc) (ls : Array Slot), k268 x1 x4 st → Cx D (wM o ad d) A s st H locs → lv_has ls 8 [(0, .ref o), (1, .int x1), (4, .int x4)] → W p l e (headSpec (ws_ yX1_begin cX1_begin 8 none) rmX1_begin).room s m args below meth c H locs 0 0 (QV below D d E (wM o ad d) A args s 0 0 post) (F0 m 268 ls [])) (hk289 : ∀ (x1 : Int32) (x4 : Int32) (x5 : Int32) (x6 : Int32) (st : CS) (H : Heap) (locs : List Loc) (ls : Array Slot), k289 x1 x4 x5 x6 st → Cx D (wM o ad d) A s st H locs → lv_has ls 8 [(0, .ref o), (1, .int x1), (4, .int x4), (5, .int x5), (6, .int x6)] → W p l e (headSpec (ws_ yX1_begin cX1_begin 8 none) rmX1_begin).room s m args below meth c H locs 0 0 (QV below D d E (wM o ad d) A args s 0 0 post) (F0 m 289 ls [])) : ∀ (x1 : Int32) (x4 : Int32) (x5 : Int32) (x6 : Int32) (y0 : Int32) (st : CS) (H : Heap) (locs : List Loc) (ls : Array Slot), wX1_begin_336  post k268 k289 x1 x4 x5 x6 y0 st → Cx D (wM o ad d) A s st H locs → lv_has ls 8 [(0, .ref o), (1, .int x1), (4, .int x4), (5, .int x5), (6, .int x6)] → W p l e (headSpec (ws_ yX1_begin cX1_begin 8 none) rmX1_begin).room s m args below meth c H locs 0 0 (QV below D d E (wM o ad d) A args s 0 0 post) (F0 m 336 ls [.int y0]) := by
  obtain ⟨hx, hb, hr, hml, hown, hts, hlk, hA, hK, hE⟩ := id F
  intro x1 x4 x5 x6 y0 st H locs ls hw C hl
  unfold wX1_begin_336 at hw
  refine lv_istore (lv' := [(7, .int y0), (0, .ref o), (1, .int x1), (4, .int x4), (5, .int x5), (6, .int x6)]) hx hb dX1_begin_336 hl (by decide) rfl (fun ls hl => ?_)
  refine lv_aload_n hx hb dX1_begin_338 rfl (lv_at hl 1 rfl) ?_
  refine x1_g35 F C dX1_begin_339 ?_
  refine lv_iload hx hb dX1_begin_342 (lv_at hl 4 rfl) ?_
  refine lv_aload_n hx hb dX1_begin_344 rfl (lv_at hl 1 rfl) ?_
  refine x1_g35 F C dX1_begin_345 ?_
  refine lv_iload hx hb dX1_begin_348 (lv_at hl 4 rfl) ?_
  obtain ⟨h_19, hw⟩ := hw
  refine x1_ld35 F C h_19 dX1_begin_350 ?_
  refine lv_if_ne (tgt := 389) hx hb dX1_begin_351 (by decide) (fun c_20 => ?_) (fun c_20 => ?_)
  · have hw := hw.2 c_20
    exact kX1_begin_389  F hk268 hk289 x1 x4 x5 x6 x5 st _ _ _ hw C (lv_sub hl [1, 2, 3, 4, 5] rfl)
  · have hw := hw.1 c_20
    refine lv_iload hx hb dX1_begin_354 (lv_at hl 0 rfl) ?_
    refine lv_if_eq (tgt := 393) hx hb dX1_begin_356 (by decide) (fun c_24 => ?_) (fun c_24 => ?_)
    · have hw := hw.1 c_24
      exact kX1_begin_393  F hk268 hk289 x1 x4 x5 x6 x5 st _ _ _ hw C (lv_sub hl [1, 2, 3, 4, 5] rfl)
    · have hw := hw.2 c_24
      refine lv_aload_n hx hb dX1_begin_359 rfl (lv_at hl 1 rfl) ?_
      refine x1_g34 F C dX1_begin_360 ?_
      refine lv_aload_n hx hb dX1_begin_363 rfl (lv_at hl 1 rfl) ?_
      refine x1_g9 F C dX1_begin_364 ?_
      refine lv_iload hx hb dX1_begin_367 (lv_at hl 5 rfl) ?_
      obtain ⟨h_25, hw⟩ := hw
      refine x1_ld9 F C h_25 dX1_begin_369 ?_
      obtain ⟨h_26, hw⟩ := hw
      refine x1_ld34 F C h_26 dX1_begin_370 ?_
      refine lv_if_ne (tgt := 389) hx hb dX1_begin_371 (by decide) (fun c_27 => ?_) (fun c_27 => ?_)
      · have hw := hw.2 c_27
        exact kX1_begin_389  F hk268 hk289 x1 x4 x5 x6 x5 st _ _ _ hw C (lv_sub hl [1, 2, 3, 4, 5] rfl)
      · have hw := hw.1 c_27
        refine lv_aload_n hx hb dX1_begin_374 rfl (lv_at hl 1 rfl) ?_
        refine x1_g35 F C dX1_begin_375 ?_
        refine lv_aload_n hx hb dX1_begin_378 rfl (lv_at hl 1 rfl) ?_
        refine x1_g9 F C dX1_begin_379 ?_
        refine lv_iload hx hb dX1_begin_382 (lv_at hl 5 rfl) ?_
        obtain ⟨h_28, hw⟩ := hw
        refine x1_ld9 F C h_28 dX1_begin_384 ?_
        obtain ⟨h_29, hw⟩ := hw
        refine x1_ld35 F C h_29 dX1_begin_385 ?_
        refine lv_if_eq (tgt := 393) hx hb dX1_begin_386 (by decide) (fun c_30 => ?_) (fun c_30 => ?_)
        · have hw := hw.1 c_30
          exact kX1_begin_393  F hk268 hk289 x1 x4 x5 x6 x5 st _ _ _ hw C (lv_sub hl [1, 2, 3, 4, 5] rfl)
        · have hw := hw.2 c_30
          exact kX1_begin_389  F hk268 hk289 x1 x4 x5 x6 x5 st _ _ _ hw C (lv_sub hl [1, 2, 3, 4, 5] rfl)
set_option maxHeartbeats 4000000 in
theorem kX1_begin_335  {post : CS → Prop} {k268 : Int32 → Int32 → CS → Prop} {k289 : Int32 → Int32 → Int32 → Int32 → CS → Prop} (F : Fx p s m args meth c cX1_begin 8 RX1 none D d E A) (hk268 : ∀ (x1 : Int32) (x4 : Int32) (st : CS) (H : Heap) (locs : List Loc) (ls : Array Slot), k268 x1 x4 st → Cx D (wM o ad d) A s st H locs → lv_has ls 8 [(0, .ref o), (1, .int x1), (4, .int x4)] → W p l e (headSpec (ws_ yX1_begin cX1_begin 8 none) rmX1_begin).room s m args below meth c H locs 0 0 (QV below D d E (wM o ad d) A args s 0 0 post) (F0 m 268 ls [])) (hk289 : ∀ (x1 : Int32) (x4 : Int32) (x5 : Int32) (x6 : Int32) (st : CS) (H : Heap) (locs : List Loc) (ls : Array Slot), k289 x1 x4 x5 x6 st → Cx D (wM o ad d) A s st H locs → lv_has ls 8 [(0, .ref o), (1, .int x1), (4, .int x4), (5, .int x5), (6, .int x6)] → W p l e (headSpec (ws_ yX1_begin cX1_begin 8 none) rmX1_begin).room s m args below meth c H locs 0 0 (QV below D d E (wM o ad d) A args s 0 0 post) (F0 m 289 ls [])) : ∀ (x1 : Int32) (x4 : Int32) (x5 : Int32) (x6 : Int32) (st : CS) (H : Heap) (locs : List Loc) (ls : Array Slot), wX1_begin_335  post k268 k289 x1 x4 x5 x6 st → Cx D (wM o ad d) A s st H locs → lv_has ls 8 [(0, .ref o), (1, .int x1), (4, .int x4), (5, .int x5), (6, .int x6)] → W p l e (headSpec (ws_ yX1_begin cX1_begin 8 none) rmX1_begin).room s m args below meth c H locs 0 0 (QV below D d E (wM o ad d) A args s 0 0 post) (F0 m 335 ls []) := by
  obtain ⟨hx, hb, hr, hml, hown, hts, hlk, hA, hK, hE⟩ := id F
  intro x1 x4 x5 x6 st H locs ls hw C hl
  unfold wX1_begin_335 at hw
  refine lv_iconst (v := 0) hx hb dX1_begin_335 (by decide) ?_
  exact kX1_begin_336  F hk268 hk289 x1 x4 x5 x6 0 st _ _ _ hw C hl
set_option maxHeartbeats 4000000 in
theorem kX1_begin_289  {post : CS → Prop} {k268 : Int32 → Int32 → CS → Prop} (F : Fx p s m args meth c cX1_begin 8 RX1 none D d E A) (hk268 : ∀ (x1 : Int32) (x4 : Int32) (st : CS) (H : Heap) (locs : List Loc) (ls : Array Slot), k268 x1 x4 st → Cx D (wM o ad d) A s st H locs → lv_has ls 8 [(0, .ref o), (1, .int x1), (4, .int x4)] → W p l e (headSpec (ws_ yX1_begin cX1_begin 8 none) rmX1_begin).room s m args below meth c H locs 0 0 (QV below D d E (wM o ad d) A args s 0 0 post) (F0 m 268 ls [])) : ∀ (fu : Nat) (x1 : Int32) (x4 : Int32) (x5 : Int32) (x6 : Int32) (st : CS) (H : Heap) (locs : List Loc) (ls : Array Slot), wX1_begin_289  post k268 fu x1 x4 x5 x6 st → Cx D (wM o ad d) A s st H locs → lv_has ls 8 [(0, .ref o), (1, .int x1), (4, .int x4), (5, .int x5), (6, .int x6)] → W p l e (headSpec (ws_ yX1_begin cX1_begin 8 none) rmX1_begin).room s m args below meth c H locs 0 0 (QV below D d E (wM o ad d) A args s 0 0 post) (F0 m 289 ls []) := by
  obtain ⟨hx, hb, hr, hml, hown, hts, hlk, hA, hK, hE⟩ := id F
  intro fu
  induction fu with
  | zero =>
    intro x1 x4 x5 x6 st H locs ls hw
    exact hw.elim
  | succ n ih =>
    have hk289 := ih
    intro x1 x4 x5 x6 st H locs ls hw C hl
    unfold wX1_begin_289 at hw
    refine lv_iload hx hb dX1_begin_289 (lv_at hl 4 rfl) ?_
    refine lv_aload_n hx hb dX1_begin_291 rfl (lv_at hl 0 rfl) ?_
    refine x1_g6 F C dX1_begin_292 ?_
    refine lv_icmp_ge (tgt := 401) hx hb dX1_begin_295 (by decide) (fun c_15 => ?_) (fun c_15 => ?_)
    · have hw := hw.1 c_15
      obtain ⟨x4_16, ex4_16⟩ : ∃ y : Int32, y = x4 + 1 := ⟨_, rfl⟩
      have hw := hw x4_16 ex4_16
      refine lv_iinc (v := x4_16) (lv' := [(4, .int x4_16), (0, .ref o), (1, .int x1), (5, .int x5), (6, .int x6)]) hx hb dX1_begin_401 hl (k := 2) rfl (by rw [ex4_16]; rfl) (by decide) rfl (fun ls hl => ?_)
      refine lv_goto (tgt := 268) hx hb dX1_begin_404 (by decide) ?_
      exact hk268 x1 x4_16 st _ _ _ hw C (lv_sub hl [1, 2, 0] rfl)
    · have hw := hw.2 c_15
      refine lv_aload_n hx hb dX1_begin_298 rfl (lv_at hl 0 rfl) ?_
      refine x1_g33 F C dX1_begin_299 ?_
      refine lv_iload hx hb dX1_begin_302 (lv_at hl 4 rfl) ?_
      obtain ⟨h_17, hw⟩ := hw
      refine x1_ld33 F C h_17 dX1_begin_304 ?_
      refine lv_if_eq (tgt := 335) hx hb dX1_begin_305 (by decide) (fun c_18 => ?_) (fun c_18 => ?_)
      · have hw := hw.1 c_18
        exact kX1_begin_335  F hk268 hk289 x1 x4 x5 x6 st _ _ _ hw C hl
      · have hw := hw.2 c_18
        refine lv_aload_n hx hb dX1_begin_308 rfl (lv_at hl 0 rfl) ?_
        refine x1_g8 F C dX1_begin_309 ?_
        refine lv_iload hx hb dX1_begin_312 (lv_at hl 4 rfl) ?_
        obtain ⟨h_31, hw⟩ := hw
        refine x1_ld8 F C h_31 dX1_begin_314 ?_
        refine lv_iload hx hb dX1_begin_315 (lv_at hl 3 rfl) ?_
        refine lv_icmp_ne (tgt := 335) hx hb dX1_begin_317 (by decide) (fun c_32 => ?_) (fun c_32 => ?_)
        · have hw := hw.2 c_32
          exact kX1_begin_335  F hk268 hk289 x1 x4 x5 x6 st _ _ _ hw C hl
        · have hw := hw.1 c_32
          refine lv_aload_n hx hb dX1_begin_320 rfl (lv_at hl 0 rfl) ?_
          refine x1_g9 F C dX1_begin_321 ?_
          refine lv_iload hx hb dX1_begin_324 (lv_at hl 4 rfl) ?_
          obtain ⟨h_33, hw⟩ := hw
          refine x1_ld9 F C h_33 dX1_begin_326 ?_
          refine lv_iload_n hx hb dX1_begin_327 rfl (lv_at hl 1 rfl) ?_
          refine lv_icmp_eq (tgt := 335) hx hb dX1_begin_328 (by decide) (fun c_34 => ?_) (fun c_34 => ?_)
          · have hw := hw.1 c_34
            exact kX1_begin_335  F hk268 hk289 x1 x4 x5 x6 st _ _ _ hw C hl
          · have hw := hw.2 c_34
            refine lv_iconst (v := 1) hx hb dX1_begin_331 (by decide) ?_
            refine lv_goto (tgt := 336) hx hb dX1_begin_332 (by decide) ?_
            exact kX1_begin_336  F hk268 hk289 x1 x4 x5 x6 1 st _ _ _ hw C hl
set_option maxHeartbeats 4000000 in
theorem kX1_begin_268  {post : CS → Prop}  (F : Fx p s m args meth c cX1_begin 8 RX1 none D d E A) : ∀ (fu : Nat) (x1 : Int32) (x4 : Int32) (st : CS) (H : Heap) (locs : List Loc) (ls : Array Slot), wX1_begin_268  post  fu x1 x4 st → Cx D (wM o ad d) A s st H locs → lv_has ls 8 [(0, .ref o), (1, .int x1), (4, .int x4)] → W p l e (headSpec (ws_ yX1_begin cX1_begin 8 none) rmX1_begin).room s m args below meth c H locs 0 0 (QV below D d E (wM o ad d) A args s 0 0 post) (F0 m 268 ls []) := by
  obtain ⟨hx, hb, hr, hml, hown, hts, hlk, hA, hK, hE⟩ := id F
  intro fu
  induction fu with
  | zero =>
    intro x1 x4 st H locs ls hw
    exact hw.elim
  | succ n ih =>
    have hk268 := ih
    intro x1 x4 st H locs ls hw C hl
    unfold wX1_begin_268 at hw
    refine lv_iload hx hb dX1_begin_268 (lv_at hl 2 rfl) ?_
    refine lv_aload_n hx hb dX1_begin_270 rfl (lv_at hl 0 rfl) ?_
    refine x1_g2 F C dX1_begin_271 ?_
    refine lv_icmp_ge (tgt := 407) hx hb dX1_begin_274 (by decide) (fun c_12 => ?_) (fun c_12 => ?_)
    · have hw := hw.1 c_12
      exact x_vret F C hw dX1_begin_407
    · have hw := hw.2 c_12
      refine lv_aload_n hx hb dX1_begin_277 rfl (lv_at hl 0 rfl) ?_
      refine x1_g38 F C dX1_begin_278 ?_
      refine lv_iload hx hb dX1_begin_281 (lv_at hl 2 rfl) ?_
      obtain ⟨h_13, hw⟩ := hw
      refine x1_ld38 F C h_13 dX1_begin_283 ?_
      refine lv_topi (fun x5_14 ex5_14 => ?_)
      have hw := hw x5_14 ex5_14
      refine lv_istore (lv' := [(5, .int x5_14), (0, .ref o), (1, .int x1), (4, .int x4)]) hx hb dX1_begin_284 hl (by decide) rfl (fun ls hl => ?_)
      refine lv_iconst (v := 0) hx hb dX1_begin_286 (by decide) ?_
      refine lv_istore (lv' := [(6, .int 0), (5, .int x5_14), (0, .ref o), (1, .int x1), (4, .int x4)]) hx hb dX1_begin_287 hl (by decide) rfl (fun ls hl => ?_)
      obtain ⟨fu, hw⟩ := hw
      exact kX1_begin_289  F hk268 fu x1 x4 x5_14 0 st _ _ _ hw C (lv_sub hl [2, 3, 4, 1, 0] rfl)
set_option maxHeartbeats 4000000 in
theorem kX1_begin_246  {post : CS → Prop} {k180 : Int32 → Int32 → CS → Prop} (F : Fx p s m args meth c cX1_begin 8 RX1 none D d E A) (hk180 : ∀ (x1 : Int32) (x4 : Int32) (st : CS) (H : Heap) (locs : List Loc) (ls : Array Slot), k180 x1 x4 st → Cx D (wM o ad d) A s st H locs → lv_has ls 8 [(0, .ref o), (1, .int x1), (4, .int x4)] → W p l e (headSpec (ws_ yX1_begin cX1_begin 8 none) rmX1_begin).room s m args below meth c H locs 0 0 (QV below D d E (wM o ad d) A args s 0 0 post) (F0 m 180 ls [])) : ∀ (x1 : Int32) (x4 : Int32) (y0 : Int32) (y1 : Int32) (st : CS) (H : Heap) (locs : List Loc) (ls : Array Slot), wX1_begin_246  post k180 x1 x4 y0 y1 st → Cx D (wM o ad d) A s st H locs → lv_has ls 8 [(0, .ref o), (1, .int x1), (4, .int x4)] → W p l e (headSpec (ws_ yX1_begin cX1_begin 8 none) rmX1_begin).room s m args below meth c H locs 0 0 (QV below D d E (wM o ad d) A args s 0 0 post) (F0 m 246 ls [.int y0, .int y1, .ref (ad 34)]) := by
  obtain ⟨hx, hb, hr, hml, hown, hts, hlk, hA, hK, hE⟩ := id F
  intro x1 x4 y0 y1 st H locs ls hw C hl
  unfold wX1_begin_246 at hw
  obtain ⟨h_36, hw⟩ := hw
  refine x1_st34 F C h_36 dX1_begin_246 (fun H locs s_37 es_37 C => ?_)
  have hw := hw s_37 es_37
  refine lv_aload_n hx hb dX1_begin_247 rfl (lv_at hl 0 rfl) ?_
  refine x1_g35 F C dX1_begin_248 ?_
  refine lv_iload hx hb dX1_begin_251 (lv_at hl 2 rfl) ?_
  refine lv_iconst (v := 0) hx hb dX1_begin_253 (by decide) ?_
  obtain ⟨h_38, hw⟩ := hw
  refine x1_st35 F C h_38 dX1_begin_254 (fun H locs s_39 es_39 C => ?_)
  have hw := hw s_39 es_39
  obtain ⟨x4_40, ex4_40⟩ : ∃ y : Int32, y = x4 + 1 := ⟨_, rfl⟩
  have hw := hw x4_40 ex4_40
  refine lv_iinc (v := x4_40) (lv' := [(4, .int x4_40), (0, .ref o), (1, .int x1)]) hx hb dX1_begin_255 hl (k := 2) rfl (by rw [ex4_40]; rfl) (by decide) rfl (fun ls hl => ?_)
  refine lv_goto (tgt := 180) hx hb dX1_begin_258 (by decide) ?_
  exact hk180 x1 x4_40 s_39 _ _ _ hw C (lv_sub hl [1, 2, 0] rfl)
set_option maxHeartbeats 4000000 in
theorem kX1_begin_245  {post : CS → Prop} {k180 : Int32 → Int32 → CS → Prop} (F : Fx p s m args meth c cX1_begin 8 RX1 none D d E A) (hk180 : ∀ (x1 : Int32) (x4 : Int32) (st : CS) (H : Heap) (locs : List Loc) (ls : Array Slot), k180 x1 x4 st → Cx D (wM o ad d) A s st H locs → lv_has ls 8 [(0, .ref o), (1, .int x1), (4, .int x4)] → W p l e (headSpec (ws_ yX1_begin cX1_begin 8 none) rmX1_begin).room s m args below meth c H locs 0 0 (QV below D d E (wM o ad d) A args s 0 0 post) (F0 m 180 ls [])) : ∀ (x1 : Int32) (x4 : Int32) (y0 : Int32) (st : CS) (H : Heap) (locs : List Loc) (ls : Array Slot), wX1_begin_245  post k180 x1 x4 y0 st → Cx D (wM o ad d) A s st H locs → lv_has ls 8 [(0, .ref o), (1, .int x1), (4, .int x4)] → W p l e (headSpec (ws_ yX1_begin cX1_begin 8 none) rmX1_begin).room s m args below meth c H locs 0 0 (QV below D d E (wM o ad d) A args s 0 0 post) (F0 m 245 ls [.int y0, .ref (ad 34)]) := by
  obtain ⟨hx, hb, hr, hml, hown, hts, hlk, hA, hK, hE⟩ := id F
  intro x1 x4 y0 st H locs ls hw C hl
  unfold wX1_begin_245 at hw
  refine lv_iconst (v := 0) hx hb dX1_begin_245 (by decide) ?_
  exact kX1_begin_246  F hk180 x1 x4 0 y0 st _ _ _ hw C hl
set_option maxHeartbeats 4000000 in
theorem kX1_begin_241  {post : CS → Prop} {k180 : Int32 → Int32 → CS → Prop} (F : Fx p s m args meth c cX1_begin 8 RX1 none D d E A) (hk180 : ∀ (x1 : Int32) (x4 : Int32) (st : CS) (H : Heap) (locs : List Loc) (ls : Array Slot), k180 x1 x4 st → Cx D (wM o ad d) A s st H locs → lv_has ls 8 [(0, .ref o), (1, .int x1), (4, .int x4)] → W p l e (headSpec (ws_ yX1_begin cX1_begin 8 none) rmX1_begin).room s m args below meth c H locs 0 0 (QV below D d E (wM o ad d) A args s 0 0 post) (F0 m 180 ls [])) : ∀ (x1 : Int32) (x4 : Int32) (y0 : Int32) (st : CS) (H : Heap) (locs : List Loc) (ls : Array Slot), wX1_begin_241  post k180 x1 x4 y0 st → Cx D (wM o ad d) A s st H locs → lv_has ls 8 [(0, .ref o), (1, .int x1), (4, .int x4)] → W p l e (headSpec (ws_ yX1_begin cX1_begin 8 none) rmX1_begin).room s m args below meth c H locs 0 0 (QV below D d E (wM o ad d) A args s 0 0 post) (F0 m 241 ls [.int y0, .ref (ad 34)]) := by
  obtain ⟨hx, hb, hr, hml, hown, hts, hlk, hA, hK, hE⟩ := id F
  intro x1 x4 y0 st H locs ls hw C hl
  unfold wX1_begin_241 at hw
  refine lv_iconst (v := 1) hx hb dX1_begin_241 (by decide) ?_
  refine lv_goto (tgt := 246) hx hb dX1_begin_242 (by decide) ?_
  exact kX1_begin_246  F hk180 x1 x4 1 y0 st _ _ _ hw C hl
set_option maxHeartbeats 4000000 in
theorem kX1_begin_180  {post : CS → Prop}  (F : Fx p s m args meth c cX1_begin 8 RX1 none D d E A) : ∀ (fu : Nat) (x1 : Int32) (x4 : Int32) (st : CS) (H : Heap) (locs : List Loc) (ls : Array Slot), wX1_begin_180  post  fu x1 x4 st → Cx D (wM o ad d) A s st H locs → lv_has ls 8 [(0, .ref o), (1, .int x1), (4, .int x4)] → W p l e (headSpec (ws_ yX1_begin cX1_begin 8 none) rmX1_begin).room s m args below meth c H locs 0 0 (QV below D d E (wM o ad d) A args s 0 0 post) (F0 m 180 ls []) := by
  obtain ⟨hx, hb, hr, hml, hown, hts, hlk, hA, hK, hE⟩ := id F
  intro fu
  induction fu with
  | zero =>
    intro x1 x4 st H locs ls hw
    exact hw.elim
  | succ n ih =>
    have hk180 := ih
    intro x1 x4 st H locs ls hw C hl
    unfold wX1_begin_180 at hw
    refine lv_iload hx hb dX1_begin_180 (lv_at hl 2 rfl) ?_
    refine lv_aload_n hx hb dX1_begin_182 rfl (lv_at hl 0 rfl) ?_
    refine x1_g2 F C dX1_begin_183 ?_
    refine lv_icmp_ge (tgt := 261) hx hb dX1_begin_186 (by decide) (fun c_9 => ?_) (fun c_9 => ?_)
    · have hw := hw.1 c_9
      refine lv_aload_n hx hb dX1_begin_261 rfl (lv_at hl 0 rfl) ?_
      refine x_callV (rest := []) (ci := 5) (q := (RX1, TX1, 55)) F C (ctX1_setOrder hE hw) (cwV 0 hts (lw_V q1138 q1140 qs50 q71 q1141) rfl rfl rfl (by decide +kernel) ⟨Nat.le_of_ble_eq_true rfl, Nat.le_of_ble_eq_true rfl⟩) rfl rfl rfl hl.1 rfl (Nat.le_of_ble_eq_true rfl) dX1_begin_262 ⟨Nat.zero_le _, Nat.zero_le _⟩ (fun s_10 H locs hw C => ?_)
      refine lv_iconst (v := 0) hx hb dX1_begin_265 (by decide) ?_
      refine lv_istore (lv' := [(4, .int 0), (0, .ref o), (1, .int x1)]) hx hb dX1_begin_266 hl (by decide) rfl (fun ls hl => ?_)
      obtain ⟨fu, hw⟩ := hw
      exact kX1_begin_268  F  fu x1 0 s_10 _ _ _ hw C (lv_sub hl [1, 2, 0] rfl)
    · have hw := hw.2 c_9
      refine lv_aload_n hx hb dX1_begin_189 rfl (lv_at hl 0 rfl) ?_
      refine x1_g34 F C dX1_begin_190 ?_
      refine lv_iload hx hb dX1_begin_193 (lv_at hl 2 rfl) ?_
      refine lv_iload hx hb dX1_begin_195 (lv_at hl 2 rfl) ?_
      refine lv_iload_n hx hb dX1_begin_197 rfl (lv_at hl 1 rfl) ?_
      refine lv_icmp_eq (tgt := 245) hx hb dX1_begin_198 (by decide) (fun c_35 => ?_) (fun c_35 => ?_)
      · have hw := hw.1 c_35
        exact kX1_begin_245  F hk180 x1 x4 x4 st _ _ _ hw C hl
      · have hw := hw.2 c_35
        refine lv_aload_n hx hb dX1_begin_201 rfl (lv_at hl 0 rfl) ?_
        refine x1_g4 F C dX1_begin_202 ?_
        refine lv_iload hx hb dX1_begin_205 (lv_at hl 2 rfl) ?_
        obtain ⟨h_41, hw⟩ := hw
        refine x1_ld4 F C h_41 dX1_begin_207 ?_
        refine lv_aload_n hx hb dX1_begin_208 rfl (lv_at hl 0 rfl) ?_
        refine x1_g31 F C dX1_begin_209 ?_
        refine lv_icmp_gt (tgt := 245) hx hb dX1_begin_212 (by decide) (fun c_42 => ?_) (fun c_42 => ?_)
        · have hw := hw.1 c_42
          exact kX1_begin_245  F hk180 x1 x4 x4 st _ _ _ hw C hl
        · have hw := hw.2 c_42
          refine lv_aload_n hx hb dX1_begin_215 rfl (lv_at hl 0 rfl) ?_
          refine x1_g5 F C dX1_begin_216 ?_
          refine lv_iload hx hb dX1_begin_219 (lv_at hl 2 rfl) ?_
          obtain ⟨h_43, hw⟩ := hw
          refine x1_ld5 F C h_43 dX1_begin_221 ?_
          refine lv_bipush (v := (-9)) hx hb dX1_begin_222 (by decide) ?_
          refine lv_icmp_eq (tgt := 241) hx hb dX1_begin_224 (by decide) (fun c_44 => ?_) (fun c_44 => ?_)
          · have hw := hw.1 c_44
            exact kX1_begin_241  F hk180 x1 x4 x4 st _ _ _ hw C hl
          · have hw := hw.2 c_44
            refine lv_aload_n hx hb dX1_begin_227 rfl (lv_at hl 0 rfl) ?_
            refine x1_g5 F C dX1_begin_228 ?_
            refine lv_iload hx hb dX1_begin_231 (lv_at hl 2 rfl) ?_
            obtain ⟨h_45, hw⟩ := hw
            refine x1_ld5 F C h_45 dX1_begin_233 ?_
            refine lv_aload_n hx hb dX1_begin_234 rfl (lv_at hl 0 rfl) ?_
            refine x1_g31 F C dX1_begin_235 ?_
            refine lv_icmp_le (tgt := 245) hx hb dX1_begin_238 (by decide) (fun c_46 => ?_) (fun c_46 => ?_)
            · have hw := hw.1 c_46
              exact kX1_begin_245  F hk180 x1 x4 x4 st _ _ _ hw C hl
            · have hw := hw.2 c_46
              exact kX1_begin_241  F hk180 x1 x4 x4 st _ _ _ hw C hl
set_option maxHeartbeats 4000000 in
theorem kX1_begin_177  {post : CS → Prop}  (F : Fx p s m args meth c cX1_begin 8 RX1 none D d E A) : ∀ (x1 : Int32) (st : CS) (H : Heap) (locs : List Loc) (ls : Array Slot), wX1_begin_177  post  x1 st → Cx D (wM o ad d) A s st H locs → lv_has ls 8 [(0, .ref o), (1, .int x1)] → W p l e (headSpec (ws_ yX1_begin cX1_begin 8 none) rmX1_begin).room s m args below meth c H locs 0 0 (QV below D d E (wM o ad d) A args s 0 0 post) (F0 m 177 ls []) := by
  obtain ⟨hx, hb, hr, hml, hown, hts, hlk, hA, hK, hE⟩ := id F
  intro x1 st H locs ls hw C hl
  unfold wX1_begin_177 at hw
  refine lv_iconst (v := 0) hx hb dX1_begin_177 (by decide) ?_
  refine lv_istore (lv' := [(4, .int 0), (0, .ref o), (1, .int x1)]) hx hb dX1_begin_178 hl (by decide) rfl (fun ls hl => ?_)
  obtain ⟨fu, hw⟩ := hw
  exact kX1_begin_180  F  fu x1 0 st _ _ _ hw C (lv_sub hl [1, 2, 0] rfl)
set_option maxHeartbeats 4000000 in
theorem kX1_begin_170  {post : CS → Prop} {k131 : Int32 → Int32 → Int32 → Int32 → CS → Prop} (F : Fx p s m args meth c cX1_begin 8 RX1 none D d E A) (hk131 : ∀ (x1 : Int32) (x2 : Int32) (x3 : Int32) (x4 : Int32) (st : CS) (H : Heap) (locs : List Loc) (ls : Array Slot), k131 x1 x2 x3 x4 st → Cx D (wM o ad d) A s st H locs → lv_has ls 8 [(0, .ref o), (1, .int x1), (2, .int x2), (3, .int x3), (4, .int x4)] → W p l e (headSpec (ws_ yX1_begin cX1_begin 8 none) rmX1_begin).room s m args below meth c H locs 0 0 (QV below D d E (wM o ad d) A args s 0 0 post) (F0 m 131 ls [])) : ∀ (x1 : Int32) (x2 : Int32) (x3 : Int32) (x4 : Int32) (y0 : Int32) (y1 : Int32) (st : CS) (H : Heap) (locs : List Loc) (ls : Array Slot), wX1_begin_170  post k131 x1 x2 x3 x4 y0 y1 st → Cx D (wM o ad d) A s st H locs → lv_has ls 8 [(0, .ref o), (1, .int x1), (2, .int x2), (3, .int x3), (4, .int x4)] → W p l e (headSpec (ws_ yX1_begin cX1_begin 8 none) rmX1_begin).room s m args below meth c H locs 0 0 (QV below D d E (wM o ad d) A args s 0 0 post) (F0 m 170 ls [.int y0, .int y1, .ref (ad 33)]) := by
  obtain ⟨hx, hb, hr, hml, hown, hts, hlk, hA, hK, hE⟩ := id F
  intro x1 x2 x3 x4 y0 y1 st H locs ls hw C hl
  unfold wX1_begin_170 at hw
  obtain ⟨h_50, hw⟩ := hw
  refine x1_st33 F C h_50 dX1_begin_170 (fun H locs s_51 es_51 C => ?_)
  have hw := hw s_51 es_51
  obtain ⟨x4_52, ex4_52⟩ : ∃ y : Int32, y = x4 + 1 := ⟨_, rfl⟩
  have hw := hw x4_52 ex4_52
  refine lv_iinc (v := x4_52) (lv' := [(4, .int x4_52), (0, .ref o), (1, .int x1), (2, .int x2), (3, .int x3)]) hx hb dX1_begin_171 hl (k := 4) rfl (by rw [ex4_52]; rfl) (by decide) rfl (fun ls hl => ?_)
  refine lv_goto (tgt := 131) hx hb dX1_begin_174 (by decide) ?_
  exact hk131 x1 x2 x3 x4_52 s_51 _ _ _ hw C (lv_sub hl [1, 2, 3, 4, 0] rfl)
set_option maxHeartbeats 4000000 in
theorem kX1_begin_131  {post : CS → Prop}  (F : Fx p s m args meth c cX1_begin 8 RX1 none D d E A) : ∀ (fu : Nat) (x1 : Int32) (x2 : Int32) (x3 : Int32) (x4 : Int32) (st : CS) (H : Heap) (locs : List Loc) (ls : Array Slot), wX1_begin_131  post  fu x1 x2 x3 x4 st → Cx D (wM o ad d) A s st H locs → lv_has ls 8 [(0, .ref o), (1, .int x1), (2, .int x2), (3, .int x3), (4, .int x4)] → W p l e (headSpec (ws_ yX1_begin cX1_begin 8 none) rmX1_begin).room s m args below meth c H locs 0 0 (QV below D d E (wM o ad d) A args s 0 0 post) (F0 m 131 ls []) := by
  obtain ⟨hx, hb, hr, hml, hown, hts, hlk, hA, hK, hE⟩ := id F
  intro fu
  induction fu with
  | zero =>
    intro x1 x2 x3 x4 st H locs ls hw
    exact hw.elim
  | succ n ih =>
    have hk131 := ih
    intro x1 x2 x3 x4 st H locs ls hw C hl
    unfold wX1_begin_131 at hw
    refine lv_iload hx hb dX1_begin_131 (lv_at hl 4 rfl) ?_
    refine lv_aload_n hx hb dX1_begin_133 rfl (lv_at hl 0 rfl) ?_
    refine x1_g36 F C dX1_begin_134 ?_
    refine lv_icmp_ge (tgt := 177) hx hb dX1_begin_137 (by decide) (fun c_8 => ?_) (fun c_8 => ?_)
    · have hw := hw.1 c_8
      exact kX1_begin_177  F  x1 st _ _ _ hw C (lv_sub hl [0, 1] rfl)
    · have hw := hw.2 c_8
      refine lv_iload_n hx hb dX1_begin_140 rfl (lv_at hl 2 rfl) ?_
      refine lv_if_ne (tgt := 177) hx hb dX1_begin_141 (by decide) (fun c_47 => ?_) (fun c_47 => ?_)
      · have hw := hw.2 c_47
        exact kX1_begin_177  F  x1 st _ _ _ hw C (lv_sub hl [0, 1] rfl)
      · have hw := hw.1 c_47
        refine lv_aload_n hx hb dX1_begin_144 rfl (lv_at hl 0 rfl) ?_
        refine x1_g33 F C dX1_begin_145 ?_
        refine lv_aload_n hx hb dX1_begin_148 rfl (lv_at hl 0 rfl) ?_
        refine x1_g37 F C dX1_begin_149 ?_
        refine lv_iload hx hb dX1_begin_152 (lv_at hl 4 rfl) ?_
        obtain ⟨h_48, hw⟩ := hw
        refine x1_ld37 F C h_48 dX1_begin_154 ?_
        refine lv_iload_n hx hb dX1_begin_155 rfl (lv_at hl 3 rfl) ?_
        refine lv_iload hx hb dX1_begin_156 (lv_at hl 4 rfl) ?_
        refine lv_ishr hx hb dX1_begin_158 ?_
        refine lv_iconst (v := 1) hx hb dX1_begin_159 (by decide) ?_
        refine lv_iand hx hb dX1_begin_160 ?_
        refine lv_iconst (v := 1) hx hb dX1_begin_161 (by decide) ?_
        refine lv_icmp_ne (tgt := 169) hx hb dX1_begin_162 (by decide) (fun c_49 => ?_) (fun c_49 => ?_)
        · have hw := hw.2 c_49
          refine lv_iconst (v := 0) hx hb dX1_begin_169 (by decide) ?_
          exact kX1_begin_170  F hk131 x1 x2 x3 x4 0 (sA st 37 x4.toNatClampNeg) st _ _ _ hw C hl
        · have hw := hw.1 c_49
          refine lv_iconst (v := 1) hx hb dX1_begin_165 (by decide) ?_
          refine lv_goto (tgt := 170) hx hb dX1_begin_166 (by decide) ?_
          exact kX1_begin_170  F hk131 x1 x2 x3 x4 1 (sA st 37 x4.toNatClampNeg) st _ _ _ hw C hl
set_option maxHeartbeats 4000000 in
theorem kX1_begin_121  {post : CS → Prop} {k27 : Int32 → Int32 → Int32 → Int32 → CS → Prop} (F : Fx p s m args meth c cX1_begin 8 RX1 none D d E A) (hk27 : ∀ (x1 : Int32) (x2 : Int32) (x3 : Int32) (x4 : Int32) (st : CS) (H : Heap) (locs : List Loc) (ls : Array Slot), k27 x1 x2 x3 x4 st → Cx D (wM o ad d) A s st H locs → lv_has ls 8 [(0, .ref o), (1, .int x1), (2, .int x2), (3, .int x3), (4, .int x4)] → W p l e (headSpec (ws_ yX1_begin cX1_begin 8 none) rmX1_begin).room s m args below meth c H locs 0 0 (QV below D d E (wM o ad d) A args s 0 0 post) (F0 m 27 ls [])) : ∀ (x1 : Int32) (x2 : Int32) (x3 : Int32) (x4 : Int32) (y0 : Int32) (y1 : Int32) (st : CS) (H : Heap) (locs : List Loc) (ls : Array Slot), wX1_begin_121  post k27 x1 x2 x3 x4 y0 y1 st → Cx D (wM o ad d) A s st H locs → lv_has ls 8 [(0, .ref o), (1, .int x1), (2, .int x2), (3, .int x3), (4, .int x4)] → W p l e (headSpec (ws_ yX1_begin cX1_begin 8 none) rmX1_begin).room s m args below meth c H locs 0 0 (QV below D d E (wM o ad d) A args s 0 0 post) (F0 m 121 ls [.int y0, .int y1, .ref (ad 33)]) := by
  obtain ⟨hx, hb, hr, hml, hown, hts, hlk, hA, hK, hE⟩ := id F
  intro x1 x2 x3 x4 y0 y1 st H locs ls hw C hl
  unfold wX1_begin_121 at hw
  obtain ⟨h_57, hw⟩ := hw
  refine x1_st33 F C h_57 dX1_begin_121 (fun H locs s_58 es_58 C => ?_)
  have hw := hw s_58 es_58
  obtain ⟨x4_59, ex4_59⟩ : ∃ y : Int32, y = x4 + 1 := ⟨_, rfl⟩
  have hw := hw x4_59 ex4_59
  refine lv_iinc (v := x4_59) (lv' := [(4, .int x4_59), (0, .ref o), (1, .int x1), (2, .int x2), (3, .int x3)]) hx hb dX1_begin_122 hl (k := 4) rfl (by rw [ex4_59]; rfl) (by decide) rfl (fun ls hl => ?_)
  refine lv_goto (tgt := 27) hx hb dX1_begin_125 (by decide) ?_
  exact hk27 x1 x2 x3 x4_59 s_58 _ _ _ hw C (lv_sub hl [1, 2, 3, 4, 0] rfl)
set_option maxHeartbeats 4000000 in
theorem kX1_begin_120  {post : CS → Prop} {k27 : Int32 → Int32 → Int32 → Int32 → CS → Prop} (F : Fx p s m args meth c cX1_begin 8 RX1 none D d E A) (hk27 : ∀ (x1 : Int32) (x2 : Int32) (x3 : Int32) (x4 : Int32) (st : CS) (H : Heap) (locs : List Loc) (ls : Array Slot), k27 x1 x2 x3 x4 st → Cx D (wM o ad d) A s st H locs → lv_has ls 8 [(0, .ref o), (1, .int x1), (2, .int x2), (3, .int x3), (4, .int x4)] → W p l e (headSpec (ws_ yX1_begin cX1_begin 8 none) rmX1_begin).room s m args below meth c H locs 0 0 (QV below D d E (wM o ad d) A args s 0 0 post) (F0 m 27 ls [])) : ∀ (x1 : Int32) (x2 : Int32) (x3 : Int32) (x4 : Int32) (y0 : Int32) (st : CS) (H : Heap) (locs : List Loc) (ls : Array Slot), wX1_begin_120  post k27 x1 x2 x3 x4 y0 st → Cx D (wM o ad d) A s st H locs → lv_has ls 8 [(0, .ref o), (1, .int x1), (2, .int x2), (3, .int x3), (4, .int x4)] → W p l e (headSpec (ws_ yX1_begin cX1_begin 8 none) rmX1_begin).room s m args below meth c H locs 0 0 (QV below D d E (wM o ad d) A args s 0 0 post) (F0 m 120 ls [.int y0, .ref (ad 33)]) := by
  obtain ⟨hx, hb, hr, hml, hown, hts, hlk, hA, hK, hE⟩ := id F
  intro x1 x2 x3 x4 y0 st H locs ls hw C hl
  unfold wX1_begin_120 at hw
  refine lv_iconst (v := 0) hx hb dX1_begin_120 (by decide) ?_
  exact kX1_begin_121  F hk27 x1 x2 x3 x4 0 y0 st _ _ _ hw C hl
set_option maxHeartbeats 4000000 in
theorem kX1_begin_116  {post : CS → Prop} {k27 : Int32 → Int32 → Int32 → Int32 → CS → Prop} (F : Fx p s m args meth c cX1_begin 8 RX1 none D d E A) (hk27 : ∀ (x1 : Int32) (x2 : Int32) (x3 : Int32) (x4 : Int32) (st : CS) (H : Heap) (locs : List Loc) (ls : Array Slot), k27 x1 x2 x3 x4 st → Cx D (wM o ad d) A s st H locs → lv_has ls 8 [(0, .ref o), (1, .int x1), (2, .int x2), (3, .int x3), (4, .int x4)] → W p l e (headSpec (ws_ yX1_begin cX1_begin 8 none) rmX1_begin).room s m args below meth c H locs 0 0 (QV below D d E (wM o ad d) A args s 0 0 post) (F0 m 27 ls [])) : ∀ (x1 : Int32) (x2 : Int32) (x3 : Int32) (x4 : Int32) (y0 : Int32) (st : CS) (H : Heap) (locs : List Loc) (ls : Array Slot), wX1_begin_116  post k27 x1 x2 x3 x4 y0 st → Cx D (wM o ad d) A s st H locs → lv_has ls 8 [(0, .ref o), (1, .int x1), (2, .int x2), (3, .int x3), (4, .int x4)] → W p l e (headSpec (ws_ yX1_begin cX1_begin 8 none) rmX1_begin).room s m args below meth c H locs 0 0 (QV below D d E (wM o ad d) A args s 0 0 post) (F0 m 116 ls [.int y0, .ref (ad 33)]) := by
  obtain ⟨hx, hb, hr, hml, hown, hts, hlk, hA, hK, hE⟩ := id F
  intro x1 x2 x3 x4 y0 st H locs ls hw C hl
  unfold wX1_begin_116 at hw
  refine lv_iconst (v := 1) hx hb dX1_begin_116 (by decide) ?_
  refine lv_goto (tgt := 121) hx hb dX1_begin_117 (by decide) ?_
  exact kX1_begin_121  F hk27 x1 x2 x3 x4 1 y0 st _ _ _ hw C hl
set_option maxHeartbeats 4000000 in
theorem kX1_begin_78  {post : CS → Prop} {k27 : Int32 → Int32 → Int32 → Int32 → CS → Prop} (F : Fx p s m args meth c cX1_begin 8 RX1 none D d E A) (hk27 : ∀ (x1 : Int32) (x2 : Int32) (x3 : Int32) (x4 : Int32) (st : CS) (H : Heap) (locs : List Loc) (ls : Array Slot), k27 x1 x2 x3 x4 st → Cx D (wM o ad d) A s st H locs → lv_has ls 8 [(0, .ref o), (1, .int x1), (2, .int x2), (3, .int x3), (4, .int x4)] → W p l e (headSpec (ws_ yX1_begin cX1_begin 8 none) rmX1_begin).room s m args below meth c H locs 0 0 (QV below D d E (wM o ad d) A args s 0 0 post) (F0 m 27 ls [])) : ∀ (x1 : Int32) (x2 : Int32) (x3 : Int32) (x4 : Int32) (y0 : Int32) (st : CS) (H : Heap) (locs : List Loc) (ls : Array Slot), wX1_begin_78  post k27 x1 x2 x3 x4 y0 st → Cx D (wM o ad d) A s st H locs → lv_has ls 8 [(0, .ref o), (1, .int x1), (2, .int x2), (3, .int x3), (4, .int x4)] → W p l e (headSpec (ws_ yX1_begin cX1_begin 8 none) rmX1_begin).room s m args below meth c H locs 0 0 (QV below D d E (wM o ad d) A args s 0 0 post) (F0 m 78 ls [.int y0]) := by
  obtain ⟨hx, hb, hr, hml, hown, hts, hlk, hA, hK, hE⟩ := id F
  intro x1 x2 x3 x4 y0 st H locs ls hw C hl
  unfold wX1_begin_78 at hw
  refine lv_istore (lv' := [(5, .int y0), (0, .ref o), (1, .int x1), (2, .int x2), (3, .int x3), (4, .int x4)]) hx hb dX1_begin_78 hl (by decide) rfl (fun ls hl => ?_)
  refine lv_aload_n hx hb dX1_begin_80 rfl (lv_at hl 1 rfl) ?_
  refine x1_g33 F C dX1_begin_81 ?_
  refine lv_iload hx hb dX1_begin_84 (lv_at hl 5 rfl) ?_
  refine lv_aload_n hx hb dX1_begin_86 rfl (lv_at hl 1 rfl) ?_
  refine x1_g13 F C dX1_begin_87 ?_
  refine lv_iload hx hb dX1_begin_90 (lv_at hl 5 rfl) ?_
  obtain ⟨h_55, hw⟩ := hw
  refine x1_ld13 F C h_55 dX1_begin_92 ?_
  refine lv_if_ne (tgt := 120) hx hb dX1_begin_93 (by decide) (fun c_56 => ?_) (fun c_56 => ?_)
  · have hw := hw.2 c_56
    exact kX1_begin_120  F hk27 x1 x2 x3 x4 x4 st _ _ _ hw C (lv_sub hl [1, 2, 3, 4, 5] rfl)
  · have hw := hw.1 c_56
    refine lv_iload hx hb dX1_begin_96 (lv_at hl 0 rfl) ?_
    refine lv_if_eq (tgt := 120) hx hb dX1_begin_98 (by decide) (fun c_60 => ?_) (fun c_60 => ?_)
    · have hw := hw.1 c_60
      exact kX1_begin_120  F hk27 x1 x2 x3 x4 x4 st _ _ _ hw C (lv_sub hl [1, 2, 3, 4, 5] rfl)
    · have hw := hw.2 c_60
      refine lv_aload_n hx hb dX1_begin_101 rfl (lv_at hl 1 rfl) ?_
      refine x1_g7 F C dX1_begin_102 ?_
      refine lv_iload hx hb dX1_begin_105 (lv_at hl 5 rfl) ?_
      obtain ⟨h_61, hw⟩ := hw
      refine x1_ld7 F C h_61 dX1_begin_107 ?_
      refine lv_iconst (v := 1) hx hb dX1_begin_108 (by decide) ?_
      refine lv_icmp_ne (tgt := 116) hx hb dX1_begin_109 (by decide) (fun c_62 => ?_) (fun c_62 => ?_)
      · have hw := hw.2 c_62
        exact kX1_begin_116  F hk27 x1 x2 x3 x4 x4 st _ _ _ hw C (lv_sub hl [1, 2, 3, 4, 5] rfl)
      · have hw := hw.1 c_62
        refine lv_iload_n hx hb dX1_begin_112 rfl (lv_at hl 3 rfl) ?_
        refine lv_if_eq (tgt := 120) hx hb dX1_begin_113 (by decide) (fun c_63 => ?_) (fun c_63 => ?_)
        · have hw := hw.1 c_63
          exact kX1_begin_120  F hk27 x1 x2 x3 x4 x4 st _ _ _ hw C (lv_sub hl [1, 2, 3, 4, 5] rfl)
        · have hw := hw.2 c_63
          exact kX1_begin_116  F hk27 x1 x2 x3 x4 x4 st _ _ _ hw C (lv_sub hl [1, 2, 3, 4, 5] rfl)
set_option maxHeartbeats 4000000 in
theorem kX1_begin_73  {post : CS → Prop} {k27 : Int32 → Int32 → Int32 → Int32 → CS → Prop} (F : Fx p s m args meth c cX1_begin 8 RX1 none D d E A) (hk27 : ∀ (x1 : Int32) (x2 : Int32) (x3 : Int32) (x4 : Int32) (st : CS) (H : Heap) (locs : List Loc) (ls : Array Slot), k27 x1 x2 x3 x4 st → Cx D (wM o ad d) A s st H locs → lv_has ls 8 [(0, .ref o), (1, .int x1), (2, .int x2), (3, .int x3), (4, .int x4)] → W p l e (headSpec (ws_ yX1_begin cX1_begin 8 none) rmX1_begin).room s m args below meth c H locs 0 0 (QV below D d E (wM o ad d) A args s 0 0 post) (F0 m 27 ls [])) : ∀ (x1 : Int32) (x2 : Int32) (x3 : Int32) (x4 : Int32) (st : CS) (H : Heap) (locs : List Loc) (ls : Array Slot), wX1_begin_73  post k27 x1 x2 x3 x4 st → Cx D (wM o ad d) A s st H locs → lv_has ls 8 [(0, .ref o), (1, .int x1), (2, .int x2), (3, .int x3), (4, .int x4)] → W p l e (headSpec (ws_ yX1_begin cX1_begin 8 none) rmX1_begin).room s m args below meth c H locs 0 0 (QV below D d E (wM o ad d) A args s 0 0 post) (F0 m 73 ls []) := by
  obtain ⟨hx, hb, hr, hml, hown, hts, hlk, hA, hK, hE⟩ := id F
  intro x1 x2 x3 x4 st H locs ls hw C hl
  unfold wX1_begin_73 at hw
  refine lv_iconst (v := 1) hx hb dX1_begin_73 (by decide) ?_
  refine lv_goto (tgt := 78) hx hb dX1_begin_74 (by decide) ?_
  exact kX1_begin_78  F hk27 x1 x2 x3 x4 1 st _ _ _ hw C hl
set_option maxHeartbeats 4000000 in
theorem kX1_begin_77  {post : CS → Prop} {k27 : Int32 → Int32 → Int32 → Int32 → CS → Prop} (F : Fx p s m args meth c cX1_begin 8 RX1 none D d E A) (hk27 : ∀ (x1 : Int32) (x2 : Int32) (x3 : Int32) (x4 : Int32) (st : CS) (H : Heap) (locs : List Loc) (ls : Array Slot), k27 x1 x2 x3 x4 st → Cx D (wM o ad d) A s st H locs → lv_has ls 8 [(0, .ref o), (1, .int x1), (2, .int x2), (3, .int x3), (4, .int x4)] → W p l e (headSpec (ws_ yX1_begin cX1_begin 8 none) rmX1_begin).room s m args below meth c H locs 0 0 (QV below D d E (wM o ad d) A args s 0 0 post) (F0 m 27 ls [])) : ∀ (x1 : Int32) (x2 : Int32) (x3 : Int32) (x4 : Int32) (st : CS) (H : Heap) (locs : List Loc) (ls : Array Slot), wX1_begin_77  post k27 x1 x2 x3 x4 st → Cx D (wM o ad d) A s st H locs → lv_has ls 8 [(0, .ref o), (1, .int x1), (2, .int x2), (3, .int x3), (4, .int x4)] → W p l e (headSpec (ws_ yX1_begin cX1_begin 8 none) rmX1_begin).room s m args below meth c H locs 0 0 (QV below D d E (wM o ad d) A args s 0 0 post) (F0 m 77 ls []) := by
  obtain ⟨hx, hb, hr, hml, hown, hts, hlk, hA, hK, hE⟩ := id F
  intro x1 x2 x3 x4 st H locs ls hw C hl
  unfold wX1_begin_77 at hw
  refine lv_iconst (v := 0) hx hb dX1_begin_77 (by decide) ?_
  exact kX1_begin_78  F hk27 x1 x2 x3 x4 0 st _ _ _ hw C hl
set_option maxHeartbeats 4000000 in
theorem kX1_begin_27  {post : CS → Prop}  (F : Fx p s m args meth c cX1_begin 8 RX1 none D d E A) : ∀ (fu : Nat) (x1 : Int32) (x2 : Int32) (x3 : Int32) (x4 : Int32) (st : CS) (H : Heap) (locs : List Loc) (ls : Array Slot), wX1_begin_27  post  fu x1 x2 x3 x4 st → Cx D (wM o ad d) A s st H locs → lv_has ls 8 [(0, .ref o), (1, .int x1), (2, .int x2), (3, .int x3), (4, .int x4)] → W p l e (headSpec (ws_ yX1_begin cX1_begin 8 none) rmX1_begin).room s m args below meth c H locs 0 0 (QV below D d E (wM o ad d) A args s 0 0 post) (F0 m 27 ls []) := by
  obtain ⟨hx, hb, hr, hml, hown, hts, hlk, hA, hK, hE⟩ := id F
  intro fu
  induction fu with
  | zero =>
    intro x1 x2 x3 x4 st H locs ls hw
    exact hw.elim
  | succ n ih =>
    have hk27 := ih
    intro x1 x2 x3 x4 st H locs ls hw C hl
    unfold wX1_begin_27 at hw
    refine lv_iload hx hb dX1_begin_27 (lv_at hl 4 rfl) ?_
    refine lv_aload_n hx hb dX1_begin_29 rfl (lv_at hl 0 rfl) ?_
    refine x1_g6 F C dX1_begin_30 ?_
    refine lv_icmp_ge (tgt := 128) hx hb dX1_begin_33 (by decide) (fun c_7 => ?_) (fun c_7 => ?_)
    · have hw := hw.1 c_7
      refine lv_iconst (v := 0) hx hb dX1_begin_128 (by decide) ?_
      refine lv_istore (lv' := [(4, .int 0), (0, .ref o), (1, .int x1), (2, .int x2), (3, .int x3)]) hx hb dX1_begin_129 hl (by decide) rfl (fun ls hl => ?_)
      obtain ⟨fu, hw⟩ := hw
      exact kX1_begin_131  F  fu x1 x2 x3 0 st _ _ _ hw C (lv_sub hl [1, 2, 3, 4, 0] rfl)
    · have hw := hw.2 c_7
      refine lv_aload_n hx hb dX1_begin_36 rfl (lv_at hl 0 rfl) ?_
      refine x1_g7 F C dX1_begin_37 ?_
      refine lv_iload hx hb dX1_begin_40 (lv_at hl 4 rfl) ?_
      obtain ⟨h_53, hw⟩ := hw
      refine x1_ld7 F C h_53 dX1_begin_42 ?_
      refine lv_iconst (v := 3) hx hb dX1_begin_43 (by decide) ?_
      refine lv_icmp_ne (tgt := 73) hx hb dX1_begin_44 (by decide) (fun c_54 => ?_) (fun c_54 => ?_)
      · have hw := hw.2 c_54
        exact kX1_begin_73  F hk27 x1 x2 x3 x4 st _ _ _ hw C hl
      · have hw := hw.1 c_54
        refine lv_aload_n hx hb dX1_begin_47 rfl (lv_at hl 0 rfl) ?_
        refine x1_g24 F C dX1_begin_48 ?_
        refine lv_aload_n hx hb dX1_begin_51 rfl (lv_at hl 0 rfl) ?_
        refine x1_g32 F C dX1_begin_52 ?_
        obtain ⟨h_64, hw⟩ := hw
        refine x1_ld24 F C h_64 dX1_begin_55 ?_
        refine lv_if_eq (tgt := 77) hx hb dX1_begin_56 (by decide) (fun c_65 => ?_) (fun c_65 => ?_)
        · have hw := hw.1 c_65
          exact kX1_begin_77  F hk27 x1 x2 x3 x4 st _ _ _ hw C hl
        · have hw := hw.2 c_65
          refine lv_aload_n hx hb dX1_begin_59 rfl (lv_at hl 0 rfl) ?_
          refine x1_g10 F C dX1_begin_60 ?_
          refine lv_iload hx hb dX1_begin_63 (lv_at hl 4 rfl) ?_
          obtain ⟨h_66, hw⟩ := hw
          refine x1_ld10 F C h_66 dX1_begin_65 ?_
          refine lv_aload_n hx hb dX1_begin_66 rfl (lv_at hl 0 rfl) ?_
          refine x1_g31 F C dX1_begin_67 ?_
          refine lv_icmp_gt (tgt := 77) hx hb dX1_begin_70 (by decide) (fun c_67 => ?_) (fun c_67 => ?_)
          · have hw := hw.1 c_67
            exact kX1_begin_77  F hk27 x1 x2 x3 x4 st _ _ _ hw C hl
          · have hw := hw.2 c_67
            exact kX1_begin_73  F hk27 x1 x2 x3 x4 st _ _ _ hw C hl
theorem ctX1_begin (hE : Em E)  {post : CS → Prop} {s0 : CS} {p0 p1 p2 : Int32} (hw : wpX1_begin  post s0 p0 p1 p2) : CtV l yX1_begin (ws_ yX1_begin cX1_begin 8 none) rmX1_begin D d E (wM o ad d) 0 0 [.ref o, .int p0, .int p1, .int p2] s0 post := by
  refine CtV.of hE (by decide) rfl (Nat.le_of_ble_eq_true rfl) ?_
  intro p e s m below meth c A ls F C hl
  have hl : lv_has ls 8 [(0, .ref o), (1, .int p0), (2, .int p1), (3, .int p2)] := hl
  unfold wpX1_begin at hw
  obtain ⟨hx, hb, hr, hml, hown, hts, hlk, hA, hK, -⟩ := id F
  refine lv_aload_n hx hb dX1_begin_0 rfl (lv_at hl 0 rfl) ?_
  refine lv_iload_n hx hb dX1_begin_1 rfl (lv_at hl 1 rfl) ?_
  refine x1_p30 F C dX1_begin_2 (fun H locs s_1 es_1 C => ?_)
  have hw := hw s_1 es_1
  refine lv_aload_n hx hb dX1_begin_5 rfl (lv_at hl 0 rfl) ?_
  refine lv_aload_n hx hb dX1_begin_6 rfl (lv_at hl 0 rfl) ?_
  refine x1_g5 F C dX1_begin_7 ?_
  refine lv_iload_n hx hb dX1_begin_10 rfl (lv_at hl 1 rfl) ?_
  obtain ⟨h_2, hw⟩ := hw
  refine x1_ld5 F C h_2 dX1_begin_11 ?_
  refine x1_p31 F C dX1_begin_12 (fun H locs s_3 es_3 C => ?_)
  have hw := hw s_3 es_3
  refine lv_aload_n hx hb dX1_begin_15 rfl (lv_at hl 0 rfl) ?_
  refine lv_aload_n hx hb dX1_begin_16 rfl (lv_at hl 0 rfl) ?_
  refine lv_iload_n hx hb dX1_begin_17 rfl (lv_at hl 1 rfl) ?_
  refine x_callI (rest := [.ref o]) (ci := 5) (q := (RX1, TX1, 55)) F C (ctX1_lawFor hE hw) (cwV 1 hts (lw_V q1114 q1116 qs45 q71 q1117) rfl rfl rfl (by decide +kernel) ⟨Nat.le_of_ble_eq_true rfl, Nat.le_of_ble_eq_true rfl⟩) rfl rfl rfl hl.1 rfl (Nat.le_of_ble_eq_true rfl) dX1_begin_18 ⟨Nat.zero_le _, Nat.zero_le _⟩ (fun r_5 s_4 H locs hw C => ?_)
  refine x1_p32 F C dX1_begin_21 (fun H locs s_6 es_6 C => ?_)
  have hw := hw s_6 es_6
  refine lv_iconst (v := 0) hx hb dX1_begin_24 (by decide) ?_
  refine lv_istore (lv' := [(4, .int 0), (0, .ref o), (1, .int p0), (2, .int p1), (3, .int p2)]) hx hb dX1_begin_25 hl (by decide) rfl (fun ls hl => ?_)
  obtain ⟨fu, hw⟩ := hw
  exact kX1_begin_27  F  fu p0 p1 p2 0 s_6 _ _ _ hw C (lv_sub hl [1, 2, 3, 4, 0] rfl)

abbrev rmX1_coupled : Room := { frames := 0, cells := 0, slots := 0, locals := 0 }
def wX1_coupled_109  (post : Int32 → CS → Prop) (k2 : Int32 → CS → Prop) (x1 : Int32) (st : CS) : Prop := (∀ x1_7 : Int32, x1_7 = x1 + 1 → (k2 x1_7 st))
def wX1_coupled_98  (post : Int32 → CS → Prop) (k2 : Int32 → CS → Prop) (x1 : Int32) (x2 : Int32) (st : CS) : Prop := (vp_in x2 24 ∧ (((sA st 34 x2.toNatClampNeg) = 0 → (wX1_coupled_109  post k2 x1 st)) ∧ (¬ (sA st 34 x2.toNatClampNeg) = 0 → (post x2 st))))
def wX1_coupled_56  (post : Int32 → CS → Prop) (k2 : Int32 → CS → Prop) (x1 : Int32) (y0 : Int32) (st : CS) : Prop := ((y0 < 0 → (wX1_coupled_109  post k2 x1 st)) ∧ (¬ y0 < 0 → (vp_in x1 20 ∧ (((sI st 31) < (sA st 17 x1.toNatClampNeg) → (wX1_coupled_109  post k2 x1 st)) ∧ (¬ (sI st 31) < (sA st 17 x1.toNatClampNeg) → (vp_in x1 20 ∧ (((sA st 18 x1.toNatClampNeg) = (-9) → (wX1_coupled_98  post k2 x1 y0 st)) ∧ (¬ (sA st 18 x1.toNatClampNeg) = (-9) → (vp_in x1 20 ∧ (((sA st 18 x1.toNatClampNeg) < (sI st 31) → (wX1_coupled_109  post k2 x1 st)) ∧ (¬ (sA st 18 x1.toNatClampNeg) < (sI st 31) → (wX1_coupled_98  post k2 x1 y0 st))))))))))))
def wX1_coupled_2  (post : Int32 → CS → Prop)  : Nat → Int32 → CS → Prop
  | 0 => fun _ _ => False
  | n + 1 => fun x1 st => (((sI st 14) ≤ x1 → (post (-9) st)) ∧ (¬ (sI st 14) ≤ x1 → (vp_in x1 20 ∧ (((sA st 15 x1.toNatClampNeg) = (sI st 30) → (vp_in x1 20 ∧ (wX1_coupled_56  post (wX1_coupled_2  post  n) x1 (sA st 16 x1.toNatClampNeg) st))) ∧ (¬ (sA st 15 x1.toNatClampNeg) = (sI st 30) → (vp_in x1 20 ∧ (((sA st 16 x1.toNatClampNeg) = (sI st 30) → (vp_in x1 20 ∧ (wX1_coupled_56  post (wX1_coupled_2  post  n) x1 (sA st 15 x1.toNatClampNeg) st))) ∧ (¬ (sA st 16 x1.toNatClampNeg) = (sI st 30) → (wX1_coupled_56  post (wX1_coupled_2  post  n) x1 (-9) st)))))))))
def wpX1_coupled  (post : Int32 → CS → Prop) (s0 : CS)  : Prop := (∃ fu : Nat, wX1_coupled_2  post  fu 0 s0)
set_option maxHeartbeats 4000000 in
theorem kX1_coupled_109  {post : Int32 → CS → Prop} {k2 : Int32 → CS → Prop} (F : Fx p s m args meth c cX1_coupled 3 RX1 (some .int) D d E A) (hk2 : ∀ (x1 : Int32) (st : CS) (H : Heap) (locs : List Loc) (ls : Array Slot), k2 x1 st → Cx D (wM o ad d) A s st H locs → lv_has ls 3 [(0, .ref o), (1, .int x1)] → W p l e (headSpec (ws_ yX1_coupled cX1_coupled 3 (some .int)) rmX1_coupled).room s m args below meth c H locs 0 0 (QI below D d E (wM o ad d) A args s 0 0 post) (F0 m 2 ls [])) : ∀ (x1 : Int32) (st : CS) (H : Heap) (locs : List Loc) (ls : Array Slot), wX1_coupled_109  post k2 x1 st → Cx D (wM o ad d) A s st H locs → lv_has ls 3 [(0, .ref o), (1, .int x1)] → W p l e (headSpec (ws_ yX1_coupled cX1_coupled 3 (some .int)) rmX1_coupled).room s m args below meth c H locs 0 0 (QI below D d E (wM o ad d) A args s 0 0 post) (F0 m 109 ls []) := by
  obtain ⟨hx, hb, hr, hml, hown, hts, hlk, hA, hK, hE⟩ := id F
  intro x1 st H locs ls hw C hl
  unfold wX1_coupled_109 at hw
  obtain ⟨x1_7, ex1_7⟩ : ∃ y : Int32, y = x1 + 1 := ⟨_, rfl⟩
  have hw := hw x1_7 ex1_7
  refine lv_iinc (v := x1_7) (lv' := [(1, .int x1_7), (0, .ref o)]) hx hb dX1_coupled_109 hl (k := 1) rfl (by rw [ex1_7]; rfl) (by decide) rfl (fun ls hl => ?_)
  refine lv_goto (tgt := 2) hx hb dX1_coupled_112 (by decide) ?_
  exact hk2 x1_7 st _ _ _ hw C (lv_sub hl [1, 0] rfl)
set_option maxHeartbeats 4000000 in
theorem kX1_coupled_98  {post : Int32 → CS → Prop} {k2 : Int32 → CS → Prop} (F : Fx p s m args meth c cX1_coupled 3 RX1 (some .int) D d E A) (hk2 : ∀ (x1 : Int32) (st : CS) (H : Heap) (locs : List Loc) (ls : Array Slot), k2 x1 st → Cx D (wM o ad d) A s st H locs → lv_has ls 3 [(0, .ref o), (1, .int x1)] → W p l e (headSpec (ws_ yX1_coupled cX1_coupled 3 (some .int)) rmX1_coupled).room s m args below meth c H locs 0 0 (QI below D d E (wM o ad d) A args s 0 0 post) (F0 m 2 ls [])) : ∀ (x1 : Int32) (x2 : Int32) (st : CS) (H : Heap) (locs : List Loc) (ls : Array Slot), wX1_coupled_98  post k2 x1 x2 st → Cx D (wM o ad d) A s st H locs → lv_has ls 3 [(0, .ref o), (1, .int x1), (2, .int x2)] → W p l e (headSpec (ws_ yX1_coupled cX1_coupled 3 (some .int)) rmX1_coupled).room s m args below meth c H locs 0 0 (QI below D d E (wM o ad d) A args s 0 0 post) (F0 m 98 ls []) := by
  obtain ⟨hx, hb, hr, hml, hown, hts, hlk, hA, hK, hE⟩ := id F
  intro x1 x2 st H locs ls hw C hl
  unfold wX1_coupled_98 at hw
  refine lv_aload_n hx hb dX1_coupled_98 rfl (lv_at hl 0 rfl) ?_
  refine x1_g34 F C dX1_coupled_99 ?_
  refine lv_iload_n hx hb dX1_coupled_102 rfl (lv_at hl 2 rfl) ?_
  obtain ⟨h_12, hw⟩ := hw
  refine x1_ld34 F C h_12 dX1_coupled_103 ?_
  refine lv_if_eq (tgt := 109) hx hb dX1_coupled_104 (by decide) (fun c_13 => ?_) (fun c_13 => ?_)
  · have hw := hw.1 c_13
    exact kX1_coupled_109  F hk2 x1 st _ _ _ hw C (lv_sub hl [0, 1] rfl)
  · have hw := hw.2 c_13
    refine lv_iload_n hx hb dX1_coupled_107 rfl (lv_at hl 2 rfl) ?_
    exact x_iret F C hw dX1_coupled_108
set_option maxHeartbeats 4000000 in
theorem kX1_coupled_56  {post : Int32 → CS → Prop} {k2 : Int32 → CS → Prop} (F : Fx p s m args meth c cX1_coupled 3 RX1 (some .int) D d E A) (hk2 : ∀ (x1 : Int32) (st : CS) (H : Heap) (locs : List Loc) (ls : Array Slot), k2 x1 st → Cx D (wM o ad d) A s st H locs → lv_has ls 3 [(0, .ref o), (1, .int x1)] → W p l e (headSpec (ws_ yX1_coupled cX1_coupled 3 (some .int)) rmX1_coupled).room s m args below meth c H locs 0 0 (QI below D d E (wM o ad d) A args s 0 0 post) (F0 m 2 ls [])) : ∀ (x1 : Int32) (y0 : Int32) (st : CS) (H : Heap) (locs : List Loc) (ls : Array Slot), wX1_coupled_56  post k2 x1 y0 st → Cx D (wM o ad d) A s st H locs → lv_has ls 3 [(0, .ref o), (1, .int x1)] → W p l e (headSpec (ws_ yX1_coupled cX1_coupled 3 (some .int)) rmX1_coupled).room s m args below meth c H locs 0 0 (QI below D d E (wM o ad d) A args s 0 0 post) (F0 m 56 ls [.int y0]) := by
  obtain ⟨hx, hb, hr, hml, hown, hts, hlk, hA, hK, hE⟩ := id F
  intro x1 y0 st H locs ls hw C hl
  unfold wX1_coupled_56 at hw
  refine lv_istore_n (lv' := [(2, .int y0), (0, .ref o), (1, .int x1)]) hx hb dX1_coupled_56 rfl hl (by decide) rfl (fun ls hl => ?_)
  refine lv_iload_n hx hb dX1_coupled_57 rfl (lv_at hl 0 rfl) ?_
  refine lv_if_lt (tgt := 109) hx hb dX1_coupled_58 (by decide) (fun c_6 => ?_) (fun c_6 => ?_)
  · have hw := hw.1 c_6
    exact kX1_coupled_109  F hk2 x1 st _ _ _ hw C (lv_sub hl [1, 2] rfl)
  · have hw := hw.2 c_6
    refine lv_aload_n hx hb dX1_coupled_61 rfl (lv_at hl 1 rfl) ?_
    refine x1_g17 F C dX1_coupled_62 ?_
    refine lv_iload_n hx hb dX1_coupled_65 rfl (lv_at hl 2 rfl) ?_
    obtain ⟨h_8, hw⟩ := hw
    refine x1_ld17 F C h_8 dX1_coupled_66 ?_
    refine lv_aload_n hx hb dX1_coupled_67 rfl (lv_at hl 1 rfl) ?_
    refine x1_g31 F C dX1_coupled_68 ?_
    refine lv_icmp_gt (tgt := 109) hx hb dX1_coupled_71 (by decide) (fun c_9 => ?_) (fun c_9 => ?_)
    · have hw := hw.1 c_9
      exact kX1_coupled_109  F hk2 x1 st _ _ _ hw C (lv_sub hl [1, 2] rfl)
    · have hw := hw.2 c_9
      refine lv_aload_n hx hb dX1_coupled_74 rfl (lv_at hl 1 rfl) ?_
      refine x1_g18 F C dX1_coupled_75 ?_
      refine lv_iload_n hx hb dX1_coupled_78 rfl (lv_at hl 2 rfl) ?_
      obtain ⟨h_10, hw⟩ := hw
      refine x1_ld18 F C h_10 dX1_coupled_79 ?_
      refine lv_bipush (v := (-9)) hx hb dX1_coupled_80 (by decide) ?_
      refine lv_icmp_eq (tgt := 98) hx hb dX1_coupled_82 (by decide) (fun c_11 => ?_) (fun c_11 => ?_)
      · have hw := hw.1 c_11
        exact kX1_coupled_98  F hk2 x1 y0 st _ _ _ hw C (lv_sub hl [1, 2, 0] rfl)
      · have hw := hw.2 c_11
        refine lv_aload_n hx hb dX1_coupled_85 rfl (lv_at hl 1 rfl) ?_
        refine x1_g31 F C dX1_coupled_86 ?_
        refine lv_aload_n hx hb dX1_coupled_89 rfl (lv_at hl 1 rfl) ?_
        refine x1_g18 F C dX1_coupled_90 ?_
        refine lv_iload_n hx hb dX1_coupled_93 rfl (lv_at hl 2 rfl) ?_
        obtain ⟨h_14, hw⟩ := hw
        refine x1_ld18 F C h_14 dX1_coupled_94 ?_
        refine lv_icmp_gt (tgt := 109) hx hb dX1_coupled_95 (by decide) (fun c_15 => ?_) (fun c_15 => ?_)
        · have hw := hw.1 c_15
          exact kX1_coupled_109  F hk2 x1 st _ _ _ hw C (lv_sub hl [1, 2] rfl)
        · have hw := hw.2 c_15
          exact kX1_coupled_98  F hk2 x1 y0 st _ _ _ hw C (lv_sub hl [1, 2, 0] rfl)
set_option maxHeartbeats 4000000 in
theorem kX1_coupled_2  {post : Int32 → CS → Prop}  (F : Fx p s m args meth c cX1_coupled 3 RX1 (some .int) D d E A) : ∀ (fu : Nat) (x1 : Int32) (st : CS) (H : Heap) (locs : List Loc) (ls : Array Slot), wX1_coupled_2  post  fu x1 st → Cx D (wM o ad d) A s st H locs → lv_has ls 3 [(0, .ref o), (1, .int x1)] → W p l e (headSpec (ws_ yX1_coupled cX1_coupled 3 (some .int)) rmX1_coupled).room s m args below meth c H locs 0 0 (QI below D d E (wM o ad d) A args s 0 0 post) (F0 m 2 ls []) := by
  obtain ⟨hx, hb, hr, hml, hown, hts, hlk, hA, hK, hE⟩ := id F
  intro fu
  induction fu with
  | zero =>
    intro x1 st H locs ls hw
    exact hw.elim
  | succ n ih =>
    have hk2 := ih
    intro x1 st H locs ls hw C hl
    unfold wX1_coupled_2 at hw
    refine lv_iload_n hx hb dX1_coupled_2 rfl (lv_at hl 1 rfl) ?_
    refine lv_aload_n hx hb dX1_coupled_3 rfl (lv_at hl 0 rfl) ?_
    refine x1_g14 F C dX1_coupled_4 ?_
    refine lv_icmp_ge (tgt := 115) hx hb dX1_coupled_7 (by decide) (fun c_1 => ?_) (fun c_1 => ?_)
    · have hw := hw.1 c_1
      refine lv_bipush (v := (-9)) hx hb dX1_coupled_115 (by decide) ?_
      exact x_iret F C hw dX1_coupled_117
    · have hw := hw.2 c_1
      refine lv_aload_n hx hb dX1_coupled_10 rfl (lv_at hl 0 rfl) ?_
      refine x1_g15 F C dX1_coupled_11 ?_
      refine lv_iload_n hx hb dX1_coupled_14 rfl (lv_at hl 1 rfl) ?_
      obtain ⟨h_2, hw⟩ := hw
      refine x1_ld15 F C h_2 dX1_coupled_15 ?_
      refine lv_aload_n hx hb dX1_coupled_16 rfl (lv_at hl 0 rfl) ?_
      refine x1_g30 F C dX1_coupled_17 ?_
      refine lv_icmp_ne (tgt := 32) hx hb dX1_coupled_20 (by decide) (fun c_3 => ?_) (fun c_3 => ?_)
      · have hw := hw.2 c_3
        refine lv_aload_n hx hb dX1_coupled_32 rfl (lv_at hl 0 rfl) ?_
        refine x1_g16 F C dX1_coupled_33 ?_
        refine lv_iload_n hx hb dX1_coupled_36 rfl (lv_at hl 1 rfl) ?_
        obtain ⟨h_4, hw⟩ := hw
        refine x1_ld16 F C h_4 dX1_coupled_37 ?_
        refine lv_aload_n hx hb dX1_coupled_38 rfl (lv_at hl 0 rfl) ?_
        refine x1_g30 F C dX1_coupled_39 ?_
        refine lv_icmp_ne (tgt := 54) hx hb dX1_coupled_42 (by decide) (fun c_5 => ?_) (fun c_5 => ?_)
        · have hw := hw.2 c_5
          refine lv_bipush (v := (-9)) hx hb dX1_coupled_54 (by decide) ?_
          exact kX1_coupled_56  F hk2 x1 (-9) st _ _ _ hw C hl
        · have hw := hw.1 c_5
          refine lv_aload_n hx hb dX1_coupled_45 rfl (lv_at hl 0 rfl) ?_
          refine x1_g15 F C dX1_coupled_46 ?_
          refine lv_iload_n hx hb dX1_coupled_49 rfl (lv_at hl 1 rfl) ?_
          obtain ⟨h_16, hw⟩ := hw
          refine x1_ld15 F C h_16 dX1_coupled_50 ?_
          refine lv_goto (tgt := 56) hx hb dX1_coupled_51 (by decide) ?_
          exact kX1_coupled_56  F hk2 x1 (sA st 15 x1.toNatClampNeg) st _ _ _ hw C hl
      · have hw := hw.1 c_3
        refine lv_aload_n hx hb dX1_coupled_23 rfl (lv_at hl 0 rfl) ?_
        refine x1_g16 F C dX1_coupled_24 ?_
        refine lv_iload_n hx hb dX1_coupled_27 rfl (lv_at hl 1 rfl) ?_
        obtain ⟨h_17, hw⟩ := hw
        refine x1_ld16 F C h_17 dX1_coupled_28 ?_
        refine lv_goto (tgt := 56) hx hb dX1_coupled_29 (by decide) ?_
        exact kX1_coupled_56  F hk2 x1 (sA st 16 x1.toNatClampNeg) st _ _ _ hw C hl
theorem ctX1_coupled (hE : Em E)  {post : Int32 → CS → Prop} {s0 : CS}  (hw : wpX1_coupled  post s0 ) : CtI l yX1_coupled (ws_ yX1_coupled cX1_coupled 3 (some .int)) rmX1_coupled D d E (wM o ad d) 0 0 [.ref o] s0 post := by
  refine CtI.of hE (by decide) rfl (Nat.le_of_ble_eq_true rfl) ?_
  intro p e s m below meth c A ls F C hl
  have hl : lv_has ls 3 [(0, .ref o)] := hl
  unfold wpX1_coupled at hw
  obtain ⟨hx, hb, hr, hml, hown, hts, hlk, hA, hK, -⟩ := id F
  refine lv_iconst (v := 0) hx hb dX1_coupled_0 (by decide) ?_
  refine lv_istore_n (lv' := [(1, .int 0), (0, .ref o)]) hx hb dX1_coupled_1 rfl hl (by decide) rfl (fun ls hl => ?_)
  obtain ⟨fu, hw⟩ := hw
  exact kX1_coupled_2  F  fu 0 s0 _ _ _ hw C (lv_sub hl [1, 0] rfl)

abbrev rmX1_isHeir : Room := { frames := 0, cells := 0, slots := 0, locals := 0 }
def wX1_isHeir_56  (post : Int32 → CS → Prop)   (st : CS) : Prop := (post 0 st)
def wX1_isHeir_52  (post : Int32 → CS → Prop)   (st : CS) : Prop := (post 1 st)
def wpX1_isHeir  (post : Int32 → CS → Prop) (s0 : CS) (p0 : Int32) (p1 : Int32) : Prop := (vp_in p0 40 ∧ (∀ x3_2 : Int32, x3_2 = (sA s0 9 p0.toNatClampNeg) → (vp_in p0 40 ∧ (((sA s0 33 p0.toNatClampNeg) = 0 → (wX1_isHeir_56  post  s0)) ∧ (¬ (sA s0 33 p0.toNatClampNeg) = 0 → (vp_in p0 40 ∧ (((sA s0 8 p0.toNatClampNeg) = p1 → ((x3_2 = (sI s0 30) → (wX1_isHeir_56  post  s0)) ∧ (¬ x3_2 = (sI s0 30) → (vp_in x3_2 24 ∧ (((sA s0 34 x3_2.toNatClampNeg) = 0 → (vp_in x3_2 24 ∧ (((sA s0 35 x3_2.toNatClampNeg) = 0 → (wX1_isHeir_56  post  s0)) ∧ (¬ (sA s0 35 x3_2.toNatClampNeg) = 0 → (wX1_isHeir_52  post  s0))))) ∧ (¬ (sA s0 34 x3_2.toNatClampNeg) = 0 → (wX1_isHeir_52  post  s0))))))) ∧ (¬ (sA s0 8 p0.toNatClampNeg) = p1 → (wX1_isHeir_56  post  s0)))))))))
set_option maxHeartbeats 4000000 in
theorem kX1_isHeir_56  {post : Int32 → CS → Prop}  (F : Fx p s m args meth c cX1_isHeir 4 RX1 (some .boolean) D d E A) : ∀  (st : CS) (H : Heap) (locs : List Loc) (ls : Array Slot), wX1_isHeir_56  post  st → Cx D (wM o ad d) A s st H locs → lv_has ls 4 [] → W p l e (headSpec (ws_ yX1_isHeir cX1_isHeir 4 (some .boolean)) rmX1_isHeir).room s m args below meth c H locs 0 0 (QI below D d E (wM o ad d) A args s 0 0 post) (F0 m 56 ls []) := by
  obtain ⟨hx, hb, hr, hml, hown, hts, hlk, hA, hK, hE⟩ := id F
  intro st H locs ls hw C hl
  unfold wX1_isHeir_56 at hw
  refine lv_iconst (v := 0) hx hb dX1_isHeir_56 (by decide) ?_
  exact x_zret F C zb_0 hw dX1_isHeir_57
set_option maxHeartbeats 4000000 in
theorem kX1_isHeir_52  {post : Int32 → CS → Prop}  (F : Fx p s m args meth c cX1_isHeir 4 RX1 (some .boolean) D d E A) : ∀  (st : CS) (H : Heap) (locs : List Loc) (ls : Array Slot), wX1_isHeir_52  post  st → Cx D (wM o ad d) A s st H locs → lv_has ls 4 [] → W p l e (headSpec (ws_ yX1_isHeir cX1_isHeir 4 (some .boolean)) rmX1_isHeir).room s m args below meth c H locs 0 0 (QI below D d E (wM o ad d) A args s 0 0 post) (F0 m 52 ls []) := by
  obtain ⟨hx, hb, hr, hml, hown, hts, hlk, hA, hK, hE⟩ := id F
  intro st H locs ls hw C hl
  unfold wX1_isHeir_52 at hw
  refine lv_iconst (v := 1) hx hb dX1_isHeir_52 (by decide) ?_
  refine lv_goto (tgt := 57) hx hb dX1_isHeir_53 (by decide) ?_
  exact x_zret F C zb_1 hw dX1_isHeir_57
theorem ctX1_isHeir (hE : Em E)  {post : Int32 → CS → Prop} {s0 : CS} {p0 p1 : Int32} (hw : wpX1_isHeir  post s0 p0 p1) : CtI l yX1_isHeir (ws_ yX1_isHeir cX1_isHeir 4 (some .boolean)) rmX1_isHeir D d E (wM o ad d) 0 0 [.ref o, .int p0, .int p1] s0 post := by
  refine CtI.of hE (by decide) rfl (Nat.le_of_ble_eq_true rfl) ?_
  intro p e s m below meth c A ls F C hl
  have hl : lv_has ls 4 [(0, .ref o), (1, .int p0), (2, .int p1)] := hl
  unfold wpX1_isHeir at hw
  obtain ⟨hx, hb, hr, hml, hown, hts, hlk, hA, hK, -⟩ := id F
  refine lv_aload_n hx hb dX1_isHeir_0 rfl (lv_at hl 0 rfl) ?_
  refine x1_g9 F C dX1_isHeir_1 ?_
  refine lv_iload_n hx hb dX1_isHeir_4 rfl (lv_at hl 1 rfl) ?_
  obtain ⟨h_1, hw⟩ := hw
  refine x1_ld9 F C h_1 dX1_isHeir_5 ?_
  refine lv_topi (fun x3_2 ex3_2 => ?_)
  have hw := hw x3_2 ex3_2
  refine lv_istore_n (lv' := [(3, .int x3_2), (0, .ref o), (1, .int p0), (2, .int p1)]) hx hb dX1_isHeir_6 rfl hl (by decide) rfl (fun ls hl => ?_)
  refine lv_aload_n hx hb dX1_isHeir_7 rfl (lv_at hl 1 rfl) ?_
  refine x1_g33 F C dX1_isHeir_8 ?_
  refine lv_iload_n hx hb dX1_isHeir_11 rfl (lv_at hl 2 rfl) ?_
  obtain ⟨h_3, hw⟩ := hw
  refine x1_ld33 F C h_3 dX1_isHeir_12 ?_
  refine lv_if_eq (tgt := 56) hx hb dX1_isHeir_13 (by decide) (fun c_4 => ?_) (fun c_4 => ?_)
  · have hw := hw.1 c_4
    exact kX1_isHeir_56  F  s0 _ _ _ hw C (lv_sub hl [] rfl)
  · have hw := hw.2 c_4
    refine lv_aload_n hx hb dX1_isHeir_16 rfl (lv_at hl 1 rfl) ?_
    refine x1_g8 F C dX1_isHeir_17 ?_
    refine lv_iload_n hx hb dX1_isHeir_20 rfl (lv_at hl 2 rfl) ?_
    obtain ⟨h_5, hw⟩ := hw
    refine x1_ld8 F C h_5 dX1_isHeir_21 ?_
    refine lv_iload_n hx hb dX1_isHeir_22 rfl (lv_at hl 3 rfl) ?_
    refine lv_icmp_ne (tgt := 56) hx hb dX1_isHeir_23 (by decide) (fun c_6 => ?_) (fun c_6 => ?_)
    · have hw := hw.2 c_6
      exact kX1_isHeir_56  F  s0 _ _ _ hw C (lv_sub hl [] rfl)
    · have hw := hw.1 c_6
      refine lv_iload_n hx hb dX1_isHeir_26 rfl (lv_at hl 0 rfl) ?_
      refine lv_aload_n hx hb dX1_isHeir_27 rfl (lv_at hl 1 rfl) ?_
      refine x1_g30 F C dX1_isHeir_28 ?_
      refine lv_icmp_eq (tgt := 56) hx hb dX1_isHeir_31 (by decide) (fun c_7 => ?_) (fun c_7 => ?_)
      · have hw := hw.1 c_7
        exact kX1_isHeir_56  F  s0 _ _ _ hw C (lv_sub hl [] rfl)
      · have hw := hw.2 c_7
        refine lv_aload_n hx hb dX1_isHeir_34 rfl (lv_at hl 1 rfl) ?_
        refine x1_g34 F C dX1_isHeir_35 ?_
        refine lv_iload_n hx hb dX1_isHeir_38 rfl (lv_at hl 0 rfl) ?_
        obtain ⟨h_8, hw⟩ := hw
        refine x1_ld34 F C h_8 dX1_isHeir_39 ?_
        refine lv_if_ne (tgt := 52) hx hb dX1_isHeir_40 (by decide) (fun c_9 => ?_) (fun c_9 => ?_)
        · have hw := hw.2 c_9
          exact kX1_isHeir_52  F  s0 _ _ _ hw C (lv_sub hl [] rfl)
        · have hw := hw.1 c_9
          refine lv_aload_n hx hb dX1_isHeir_43 rfl (lv_at hl 1 rfl) ?_
          refine x1_g35 F C dX1_isHeir_44 ?_
          refine lv_iload_n hx hb dX1_isHeir_47 rfl (lv_at hl 0 rfl) ?_
          obtain ⟨h_10, hw⟩ := hw
          refine x1_ld35 F C h_10 dX1_isHeir_48 ?_
          refine lv_if_eq (tgt := 56) hx hb dX1_isHeir_49 (by decide) (fun c_11 => ?_) (fun c_11 => ?_)
          · have hw := hw.1 c_11
            exact kX1_isHeir_56  F  s0 _ _ _ hw C (lv_sub hl [] rfl)
          · have hw := hw.2 c_11
            exact kX1_isHeir_52  F  s0 _ _ _ hw C (lv_sub hl [] rfl)

abbrev rmX1_divisor : Room := { frames := 0, cells := 0, slots := 0, locals := 0 }
def wX1_divisor_17  (post : Int64 → CS → Prop)  : Nat → Int64 → Int64 → CS → Prop
  | 0 => fun _ _ _ => False
  | n + 1 => fun x4 x6 st => ((x6 = 0 → (post x4 st)) ∧ (¬ x6 = 0 → (¬ x6 = 0 ∧ (∀ x8_4 : Int64, x8_4 = (x4 - x4 / x6 * x6) → (wX1_divisor_17  post  n x6 x8_4 st)))))
def wX1_divisor_12  (post : Int64 → CS → Prop)  (x2 : Int64) (y0 : Int64) (st : CS) : Prop := (∃ fu : Nat, wX1_divisor_17  post  fu y0 x2 st)
def wpX1_divisor  (post : Int64 → CS → Prop) (s0 : CS) (p0 : Int64) (p1 : Int64) : Prop := ((0 ≤ p0 → (wX1_divisor_12  post  p1 p0 s0)) ∧ (¬ 0 ≤ p0 → (wX1_divisor_12  post  p1 (-p0) s0)))
set_option maxHeartbeats 4000000 in
theorem kX1_divisor_17  {post : Int64 → CS → Prop}  (F : Fx p s m args meth c cX1_divisor 10 RX1 (some .long) D d E A) : ∀ (fu : Nat) (x4 : Int64) (x6 : Int64) (st : CS) (H : Heap) (locs : List Loc) (ls : Array Slot), wX1_divisor_17  post  fu x4 x6 st → Cx D wf A s st H locs → lv_has ls 10 [(4, .long x4), (6, .long x6)] → W p l e (headSpec (ws_ yX1_divisor cX1_divisor 10 (some .long)) rmX1_divisor).room s m args below meth c H locs 0 0 (QL below D d E wf A args s 0 0 post) (F0 m 17 ls []) := by
  obtain ⟨hx, hb, hr, hml, hown, hts, hlk, hA, hK, hE⟩ := id F
  intro fu
  induction fu with
  | zero =>
    intro x4 x6 st H locs ls hw
    exact hw.elim
  | succ n ih =>
    have hk17 := ih
    intro x4 x6 st H locs ls hw C hl
    unfold wX1_divisor_17 at hw
    refine lv_lload hx hb dX1_divisor_17 (lv_at hl 1 rfl) ?_
    refine lv_lconst (v := 0) hx hb dX1_divisor_19 (by decide) ?_
    refine W.lcmp hx hb dX1_divisor_20 ?_
    refine lv_if_eq (tgt := 42) hx hb dX1_divisor_21 (by decide) (fun c_2 => ?_) (fun c_2 => ?_)
    · have hw := hw.1 ((lg_cmp_eq _ _).mp c_2)
      refine lv_lload hx hb dX1_divisor_42 (lv_at hl 0 rfl) ?_
      exact x_lret F C hw dX1_divisor_44
    · have hw := hw.2 (fun h9 => c_2 ((lg_cmp_eq _ _).mpr h9))
      refine lv_lload hx hb dX1_divisor_24 (lv_at hl 0 rfl) ?_
      refine lv_lload hx hb dX1_divisor_26 (lv_at hl 1 rfl) ?_
      obtain ⟨h_3, hw⟩ := hw
      refine lv_lrem hx hb dX1_divisor_28 h_3 ?_
      refine lv_topl (fun x8_4 ex8_4 => ?_)
      have hw := hw x8_4 ex8_4
      refine lv_lstore (lv' := [(8, .long x8_4), (4, .long x4), (6, .long x6)]) hx hb dX1_divisor_29 hl (by decide) rfl (fun ls hl => ?_)
      refine lv_lload hx hb dX1_divisor_31 (lv_at hl 2 rfl) ?_
      refine lv_lstore (lv' := [(4, .long x6), (8, .long x8_4), (6, .long x6)]) hx hb dX1_divisor_33 hl (by decide) rfl (fun ls hl => ?_)
      refine lv_lload hx hb dX1_divisor_35 (lv_at hl 1 rfl) ?_
      refine lv_lstore (lv' := [(6, .long x8_4), (4, .long x6), (8, .long x8_4)]) hx hb dX1_divisor_37 hl (by decide) rfl (fun ls hl => ?_)
      refine lv_goto (tgt := 17) hx hb dX1_divisor_39 (by decide) ?_
      exact hk17 x6 x8_4 st _ _ _ hw C (lv_sub hl [1, 0] rfl)
set_option maxHeartbeats 4000000 in
theorem kX1_divisor_12  {post : Int64 → CS → Prop}  (F : Fx p s m args meth c cX1_divisor 10 RX1 (some .long) D d E A) : ∀ (x2 : Int64) (y0 : Int64) (st : CS) (H : Heap) (locs : List Loc) (ls : Array Slot), wX1_divisor_12  post  x2 y0 st → Cx D wf A s st H locs → lv_has ls 10 [(2, .long x2)] → W p l e (headSpec (ws_ yX1_divisor cX1_divisor 10 (some .long)) rmX1_divisor).room s m args below meth c H locs 0 0 (QL below D d E wf A args s 0 0 post) (F0 m 12 ls [.long y0]) := by
  obtain ⟨hx, hb, hr, hml, hown, hts, hlk, hA, hK, hE⟩ := id F
  intro x2 y0 st H locs ls hw C hl
  unfold wX1_divisor_12 at hw
  refine lv_lstore (lv' := [(4, .long y0), (2, .long x2)]) hx hb dX1_divisor_12 hl (by decide) rfl (fun ls hl => ?_)
  refine lv_lload_n hx hb dX1_divisor_14 rfl (lv_at hl 1 rfl) ?_
  refine lv_lstore (lv' := [(6, .long x2), (4, .long y0), (2, .long x2)]) hx hb dX1_divisor_15 hl (by decide) rfl (fun ls hl => ?_)
  obtain ⟨fu, hw⟩ := hw
  exact kX1_divisor_17  F  fu y0 x2 st _ _ _ hw C (lv_sub hl [1, 0] rfl)
theorem ctX1_divisor (hE : Em E)  {post : Int64 → CS → Prop} {s0 : CS} {p0 p1 : Int64} (hw : wpX1_divisor  post s0 p0 p1) : CtL l yX1_divisor (ws_ yX1_divisor cX1_divisor 10 (some .long)) rmX1_divisor D d E wf 0 0 [.long p0, .long p1] s0 post := by
  refine CtL.of hE (by decide) rfl (Nat.le_of_ble_eq_true rfl) ?_
  intro p e s m below meth c A ls F C hl
  have hl : lv_has ls 10 [(0, .long p0), (2, .long p1)] := hl
  unfold wpX1_divisor at hw
  obtain ⟨hx, hb, hr, hml, hown, hts, hlk, hA, hK, -⟩ := id F
  refine lv_lload_n hx hb dX1_divisor_0 rfl (lv_at hl 0 rfl) ?_
  refine lv_lconst (v := 0) hx hb dX1_divisor_1 (by decide) ?_
  refine W.lcmp hx hb dX1_divisor_2 ?_
  refine lv_if_ge (tgt := 11) hx hb dX1_divisor_3 (by decide) (fun c_1 => ?_) (fun c_1 => ?_)
  · have hw := hw.1 ((lg_cmp_ge _ _).mp c_1)
    refine lv_lload_n hx hb dX1_divisor_11 rfl (lv_at hl 0 rfl) ?_
    exact kX1_divisor_12  F  p1 p0 s0 _ _ _ hw C (lv_sub hl [1] rfl)
  · have hw := hw.2 (fun h9 => c_1 ((lg_cmp_ge _ _).mpr h9))
    refine lv_lload_n hx hb dX1_divisor_6 rfl (lv_at hl 0 rfl) ?_
    refine lv_lneg hx hb dX1_divisor_7 ?_
    refine lv_goto (tgt := 12) hx hb dX1_divisor_8 (by decide) ?_
    exact kX1_divisor_12  F  p1 (-p0) s0 _ _ _ hw C (lv_sub hl [1] rfl)

abbrev rmX1_add : Room := { frames := 1, cells := 0, slots := 0, locals := 29 }
def wpX1_add  (post : CS → Prop) (s0 : CS) (p0 : Int64) (p1 : Int64) (p2 : Int64) (p3 : Int64) : Prop := (wpX1_divisor (fun r_2 s_1 => (¬ r_2 = 0 ∧ (¬ r_2 = 0 ∧ (∀ x11_5 : Int64, x11_5 = ((p0 * (p3 / r_2)) + (p2 * (p1 / r_2))) → (¬ r_2 = 0 ∧ (∀ x13_7 : Int64, x13_7 = ((p1 / r_2) * p3) → (wpX1_divisor (fun r_9 s_8 => (¬ r_9 = 0 ∧ (∀ s_11 : CS, s_11 = uL s_8 28 (x11_5 / r_9) → (¬ r_9 = 0 ∧ (∀ s_13 : CS, s_13 = uL s_11 29 (x13_7 / r_9) → (post s_13)))))) s_1 x11_5 x13_7))))))) s0 p1 p3)
theorem ctX1_add (hE : Em E)  {post : CS → Prop} {s0 : CS} {p0 p1 p2 p3 : Int64} (hw : wpX1_add  post s0 p0 p1 p2 p3) : CtV l yX1_add (ws_ yX1_add cX1_add 17 none) rmX1_add D d E (wM o ad d) 0 0 [.ref o, .long p0, .long p1, .long p2, .long p3] s0 post := by
  refine CtV.of hE (by decide) rfl (Nat.le_of_ble_eq_true rfl) ?_
  intro p e s m below meth c A ls F C hl
  have hl : lv_has ls 17 [(0, .ref o), (1, .long p0), (3, .long p1), (5, .long p2), (7, .long p3)] := hl
  unfold wpX1_add at hw
  obtain ⟨hx, hb, hr, hml, hown, hts, hlk, hA, hK, -⟩ := id F
  refine lv_lload_n hx hb dX1_add_0 rfl (lv_at hl 2 rfl) ?_
  refine lv_lload hx hb dX1_add_1 (lv_at hl 4 rfl) ?_
  refine x_callSL (rest := []) F C (ctX1_divisor hE hw) (va_cwS 2 hts (lw_S q1166 q1167 q71 q1168) rfl rfl rfl (by decide +kernel) ⟨Nat.le_of_ble_eq_true rfl, Nat.le_of_ble_eq_true rfl⟩) rfl hl.1 rfl (Nat.le_of_ble_eq_true rfl) dX1_add_3 ⟨Nat.zero_le _, Nat.zero_le _⟩ (fun r_2 s_1 H locs hw C => ?_)
  refine lv_lstore (lv' := [(9, .long r_2), (0, .ref o), (1, .long p0), (3, .long p1), (5, .long p2), (7, .long p3)]) hx hb dX1_add_6 hl (by decide) rfl (fun ls hl => ?_)
  refine lv_lload_n hx hb dX1_add_8 rfl (lv_at hl 2 rfl) ?_
  refine lv_lload hx hb dX1_add_9 (lv_at hl 5 rfl) ?_
  refine lv_lload hx hb dX1_add_11 (lv_at hl 0 rfl) ?_
  obtain ⟨h_3, hw⟩ := hw
  refine lv_ldiv hx hb dX1_add_13 h_3 ?_
  refine lv_lmul hx hb dX1_add_14 ?_
  refine lv_lload hx hb dX1_add_15 (lv_at hl 4 rfl) ?_
  refine lv_lload_n hx hb dX1_add_17 rfl (lv_at hl 3 rfl) ?_
  refine lv_lload hx hb dX1_add_18 (lv_at hl 0 rfl) ?_
  obtain ⟨h_4, hw⟩ := hw
  refine lv_ldiv hx hb dX1_add_20 h_4 ?_
  refine lv_lmul hx hb dX1_add_21 ?_
  refine lv_ladd hx hb dX1_add_22 ?_
  refine lv_topl (fun x11_5 ex11_5 => ?_)
  have hw := hw x11_5 ex11_5
  refine lv_lstore (lv' := [(11, .long x11_5), (9, .long r_2), (0, .ref o), (1, .long p0), (3, .long p1), (5, .long p2), (7, .long p3)]) hx hb dX1_add_23 hl (by decide) rfl (fun ls hl => ?_)
  refine lv_lload_n hx hb dX1_add_25 rfl (lv_at hl 4 rfl) ?_
  refine lv_lload hx hb dX1_add_26 (lv_at hl 1 rfl) ?_
  obtain ⟨h_6, hw⟩ := hw
  refine lv_ldiv hx hb dX1_add_28 h_6 ?_
  refine lv_lload hx hb dX1_add_29 (lv_at hl 6 rfl) ?_
  refine lv_lmul hx hb dX1_add_31 ?_
  refine lv_topl (fun x13_7 ex13_7 => ?_)
  have hw := hw x13_7 ex13_7
  refine lv_lstore (lv' := [(13, .long x13_7), (11, .long x11_5), (9, .long r_2), (0, .ref o), (1, .long p0), (3, .long p1), (5, .long p2), (7, .long p3)]) hx hb dX1_add_32 hl (by decide) rfl (fun ls hl => ?_)
  refine lv_lload hx hb dX1_add_34 (lv_at hl 1 rfl) ?_
  refine lv_lload hx hb dX1_add_36 (lv_at hl 0 rfl) ?_
  refine x_callSL (rest := []) F C (ctX1_divisor hE hw) (va_cwS 2 hts (lw_S q1166 q1167 q71 q1168) rfl rfl rfl (by decide +kernel) ⟨Nat.le_of_ble_eq_true rfl, Nat.le_of_ble_eq_true rfl⟩) rfl hl.1 rfl (Nat.le_of_ble_eq_true rfl) dX1_add_38 ⟨Nat.zero_le _, Nat.zero_le _⟩ (fun r_9 s_8 H locs hw C => ?_)
  refine lv_lstore (lv' := [(15, .long r_9), (13, .long x13_7), (11, .long x11_5), (9, .long r_2), (0, .ref o), (1, .long p0), (3, .long p1), (5, .long p2), (7, .long p3)]) hx hb dX1_add_41 hl (by decide) rfl (fun ls hl => ?_)
  refine lv_aload_n hx hb dX1_add_43 rfl (lv_at hl 4 rfl) ?_
  refine lv_lload hx hb dX1_add_44 (lv_at hl 2 rfl) ?_
  refine lv_lload hx hb dX1_add_46 (lv_at hl 0 rfl) ?_
  obtain ⟨h_10, hw⟩ := hw
  refine lv_ldiv hx hb dX1_add_48 h_10 ?_
  refine x1_p28 F C dX1_add_49 (fun H locs s_11 es_11 C => ?_)
  have hw := hw s_11 es_11
  refine lv_aload_n hx hb dX1_add_52 rfl (lv_at hl 4 rfl) ?_
  refine lv_lload hx hb dX1_add_53 (lv_at hl 1 rfl) ?_
  refine lv_lload hx hb dX1_add_55 (lv_at hl 0 rfl) ?_
  obtain ⟨h_12, hw⟩ := hw
  refine lv_ldiv hx hb dX1_add_57 h_12 ?_
  refine x1_p29 F C dX1_add_58 (fun H locs s_13 es_13 C => ?_)
  have hw := hw s_13 es_13
  exact x_vret F C hw dX1_add_61

abbrev rmX1_gets : Room := { frames := 2, cells := 0, slots := 0, locals := 65 }
def wpX1_gets  (post : CS → Prop) (s0 : CS) (p0 : Int32) (p1 : Int64) (p2 : Int64) : Prop := (vp_in p0 25 ∧ (vp_in p0 25 ∧ (wpX1_add (fun s_3 => (vp_in p0 25 ∧ ∀ s_6 : CS, s_6 = uM s_3 26 p0.toNatClampNeg (sL s_3 28) → (vp_in p0 25 ∧ ∀ s_8 : CS, s_8 = uM s_6 27 p0.toNatClampNeg (sL s_6 29) → (post s_8)))) s0 (sM s0 26 p0.toNatClampNeg) (sM s0 27 p0.toNatClampNeg) p1 p2)))
theorem ctX1_gets (hE : Em E)  {post : CS → Prop} {s0 : CS} {p0 : Int32} {p1 : Int64} {p2 : Int64} (hw : wpX1_gets  post s0 p0 p1 p2) : CtV l yX1_gets (ws_ yX1_gets cX1_gets 6 none) rmX1_gets D d E (wM o ad d) 0 0 [.ref o, .int p0, .long p1, .long p2] s0 post := by
  refine CtV.of hE (by decide) rfl (Nat.le_of_ble_eq_true rfl) ?_
  intro p e s m below meth c A ls F C hl
  have hl : lv_has ls 6 [(0, .ref o), (1, .int p0), (2, .long p1), (4, .long p2)] := hl
  unfold wpX1_gets at hw
  obtain ⟨hx, hb, hr, hml, hown, hts, hlk, hA, hK, -⟩ := id F
  refine lv_aload_n hx hb dX1_gets_0 rfl (lv_at hl 0 rfl) ?_
  refine lv_aload_n hx hb dX1_gets_1 rfl (lv_at hl 0 rfl) ?_
  refine x1_g26 F C dX1_gets_2 ?_
  refine lv_iload_n hx hb dX1_gets_5 rfl (lv_at hl 1 rfl) ?_
  obtain ⟨h_1, hw⟩ := hw
  refine x1_ld26 F C h_1 dX1_gets_6 ?_
  refine lv_aload_n hx hb dX1_gets_7 rfl (lv_at hl 0 rfl) ?_
  refine x1_g27 F C dX1_gets_8 ?_
  refine lv_iload_n hx hb dX1_gets_11 rfl (lv_at hl 1 rfl) ?_
  obtain ⟨h_2, hw⟩ := hw
  refine x1_ld27 F C h_2 dX1_gets_12 ?_
  refine lv_lload_n hx hb dX1_gets_13 rfl (lv_at hl 2 rfl) ?_
  refine lv_lload hx hb dX1_gets_14 (lv_at hl 3 rfl) ?_
  refine x_callV (rest := []) (ci := 5) (q := (RX1, TX1, 55)) F C (ctX1_add hE hw) (cwV 4 hts (lw_V q1162 q1164 qs56 q71 q1165) rfl rfl rfl (by decide +kernel) ⟨Nat.le_of_ble_eq_true rfl, Nat.le_of_ble_eq_true rfl⟩) rfl rfl rfl hl.1 rfl (Nat.le_of_ble_eq_true rfl) dX1_gets_16 ⟨Nat.zero_le _, Nat.zero_le _⟩ (fun s_3 H locs hw C => ?_)
  refine lv_aload_n hx hb dX1_gets_19 rfl (lv_at hl 0 rfl) ?_
  refine x1_g26 F C dX1_gets_20 ?_
  refine lv_iload_n hx hb dX1_gets_23 rfl (lv_at hl 1 rfl) ?_
  refine lv_aload_n hx hb dX1_gets_24 rfl (lv_at hl 0 rfl) ?_
  refine x1_g28 F C dX1_gets_25 ?_
  obtain ⟨h_5, hw⟩ := hw
  refine x1_st26 F C h_5 dX1_gets_28 (fun H locs s_6 es_6 C => ?_)
  have hw := hw s_6 es_6
  refine lv_aload_n hx hb dX1_gets_29 rfl (lv_at hl 0 rfl) ?_
  refine x1_g27 F C dX1_gets_30 ?_
  refine lv_iload_n hx hb dX1_gets_33 rfl (lv_at hl 1 rfl) ?_
  refine lv_aload_n hx hb dX1_gets_34 rfl (lv_at hl 0 rfl) ?_
  refine x1_g29 F C dX1_gets_35 ?_
  obtain ⟨h_7, hw⟩ := hw
  refine x1_st27 F C h_7 dX1_gets_38 (fun H locs s_8 es_8 C => ?_)
  have hw := hw s_8 es_8
  exact x_vret F C hw dX1_gets_39

abbrev rmX1_give : Room := { frames := 3, cells := 0, slots := 0, locals := 90 }
def wpX1_give  (post : CS → Prop) (s0 : CS) (p0 : Int32) (p1 : Int64) (p2 : Int64) : Prop := (vp_in p0 24 ∧ (((sA s0 34 p0.toNatClampNeg) = 0 → (vp_in p0 24 ∧ (vp_in p0 24 ∧ (wpX1_add (fun s_5 => (vp_in p0 24 ∧ ∀ s_8 : CS, s_8 = uM s_5 39 p0.toNatClampNeg (sL s_5 28) → (vp_in p0 24 ∧ ∀ s_10 : CS, s_10 = uM s_8 40 p0.toNatClampNeg (sL s_8 29) → (post s_10)))) s0 (sM s0 39 p0.toNatClampNeg) (sM s0 40 p0.toNatClampNeg) p1 p2)))) ∧ (¬ (sA s0 34 p0.toNatClampNeg) = 0 → (wpX1_gets (fun s_11 => (post s_11)) s0 p0 p1 p2))))
theorem ctX1_give (hE : Em E)  {post : CS → Prop} {s0 : CS} {p0 : Int32} {p1 : Int64} {p2 : Int64} (hw : wpX1_give  post s0 p0 p1 p2) : CtV l yX1_give (ws_ yX1_give cX1_give 6 none) rmX1_give D d E (wM o ad d) 0 0 [.ref o, .int p0, .long p1, .long p2] s0 post := by
  refine CtV.of hE (by decide) rfl (Nat.le_of_ble_eq_true rfl) ?_
  intro p e s m below meth c A ls F C hl
  have hl : lv_has ls 6 [(0, .ref o), (1, .int p0), (2, .long p1), (4, .long p2)] := hl
  unfold wpX1_give at hw
  obtain ⟨hx, hb, hr, hml, hown, hts, hlk, hA, hK, -⟩ := id F
  refine lv_aload_n hx hb dX1_give_0 rfl (lv_at hl 0 rfl) ?_
  refine x1_g34 F C dX1_give_1 ?_
  refine lv_iload_n hx hb dX1_give_4 rfl (lv_at hl 1 rfl) ?_
  obtain ⟨h_1, hw⟩ := hw
  refine x1_ld34 F C h_1 dX1_give_5 ?_
  refine lv_if_eq (tgt := 20) hx hb dX1_give_6 (by decide) (fun c_2 => ?_) (fun c_2 => ?_)
  · have hw := hw.1 c_2
    refine lv_aload_n hx hb dX1_give_20 rfl (lv_at hl 0 rfl) ?_
    refine lv_aload_n hx hb dX1_give_21 rfl (lv_at hl 0 rfl) ?_
    refine x1_g39 F C dX1_give_22 ?_
    refine lv_iload_n hx hb dX1_give_25 rfl (lv_at hl 1 rfl) ?_
    obtain ⟨h_3, hw⟩ := hw
    refine x1_ld39 F C h_3 dX1_give_26 ?_
    refine lv_aload_n hx hb dX1_give_27 rfl (lv_at hl 0 rfl) ?_
    refine x1_g40 F C dX1_give_28 ?_
    refine lv_iload_n hx hb dX1_give_31 rfl (lv_at hl 1 rfl) ?_
    obtain ⟨h_4, hw⟩ := hw
    refine x1_ld40 F C h_4 dX1_give_32 ?_
    refine lv_lload_n hx hb dX1_give_33 rfl (lv_at hl 2 rfl) ?_
    refine lv_lload hx hb dX1_give_34 (lv_at hl 3 rfl) ?_
    refine x_callV (rest := []) (ci := 5) (q := (RX1, TX1, 55)) F C (ctX1_add hE hw) (cwV 4 hts (lw_V q1162 q1164 qs56 q71 q1165) rfl rfl rfl (by decide +kernel) ⟨Nat.le_of_ble_eq_true rfl, Nat.le_of_ble_eq_true rfl⟩) rfl rfl rfl hl.1 rfl (Nat.le_of_ble_eq_true rfl) dX1_give_36 ⟨Nat.zero_le _, Nat.zero_le _⟩ (fun s_5 H locs hw C => ?_)
    refine lv_aload_n hx hb dX1_give_39 rfl (lv_at hl 0 rfl) ?_
    refine x1_g39 F C dX1_give_40 ?_
    refine lv_iload_n hx hb dX1_give_43 rfl (lv_at hl 1 rfl) ?_
    refine lv_aload_n hx hb dX1_give_44 rfl (lv_at hl 0 rfl) ?_
    refine x1_g28 F C dX1_give_45 ?_
    obtain ⟨h_7, hw⟩ := hw
    refine x1_st39 F C h_7 dX1_give_48 (fun H locs s_8 es_8 C => ?_)
    have hw := hw s_8 es_8
    refine lv_aload_n hx hb dX1_give_49 rfl (lv_at hl 0 rfl) ?_
    refine x1_g40 F C dX1_give_50 ?_
    refine lv_iload_n hx hb dX1_give_53 rfl (lv_at hl 1 rfl) ?_
    refine lv_aload_n hx hb dX1_give_54 rfl (lv_at hl 0 rfl) ?_
    refine x1_g29 F C dX1_give_55 ?_
    obtain ⟨h_9, hw⟩ := hw
    refine x1_st40 F C h_9 dX1_give_58 (fun H locs s_10 es_10 C => ?_)
    have hw := hw s_10 es_10
    exact x_vret F C hw dX1_give_59
  · have hw := hw.2 c_2
    refine lv_aload_n hx hb dX1_give_9 rfl (lv_at hl 0 rfl) ?_
    refine lv_iload_n hx hb dX1_give_10 rfl (lv_at hl 1 rfl) ?_
    refine lv_lload_n hx hb dX1_give_11 rfl (lv_at hl 2 rfl) ?_
    refine lv_lload hx hb dX1_give_12 (lv_at hl 3 rfl) ?_
    refine x_callV (rest := []) (ci := 5) (q := (RX1, TX1, 55)) F C (ctX1_gets hE hw) (cwV 3 hts (lw_V q1158 q1160 qs55 q71 q1161) rfl rfl rfl (by decide +kernel) ⟨Nat.le_of_ble_eq_true rfl, Nat.le_of_ble_eq_true rfl⟩) rfl rfl rfl hl.1 rfl (Nat.le_of_ble_eq_true rfl) dX1_give_14 ⟨Nat.zero_le _, Nat.zero_le _⟩ (fun s_11 H locs hw C => ?_)
    refine lv_goto (tgt := 59) hx hb dX1_give_17 (by decide) ?_
    exact x_vret F C hw dX1_give_59

abbrev rmX1_comeDown : Room := { frames := 4, cells := 0, slots := 0, locals := 115 }
def wX1_comeDown_140  (post : CS → Prop) (k7 : Int32 → CS → Prop) (x1 : Int32) (st : CS) : Prop := (∀ x1_7 : Int32, x1_7 = x1 + (-1) → (k7 x1_7 st))
def wX1_comeDown_134  (post : CS → Prop) (k7 : Int32 → CS → Prop) (k59 : Int32 → Int32 → Int32 → Int32 → CS → Prop) (x1 : Int32) (x2 : Int32) (x3 : Int32) (x4 : Int32) (st : CS) : Prop := (∀ x4_13 : Int32, x4_13 = x4 + 1 → (k59 x1 x2 x3 x4_13 st))
def wX1_comeDown_59  (post : CS → Prop) (k7 : Int32 → CS → Prop) : Nat → Int32 → Int32 → Int32 → Int32 → CS → Prop
  | 0 => fun _ _ _ _ _ => False
  | n + 1 => fun x1 x2 x3 x4 st => (((sI st 6) ≤ x4 → (wX1_comeDown_140  post k7 x1 st)) ∧ (¬ (sI st 6) ≤ x4 → (vp_in x2 24 ∧ (((sM st 39 x2.toNatClampNeg) ≤ 0 → (wX1_comeDown_140  post k7 x1 st)) ∧ (¬ (sM st 39 x2.toNatClampNeg) ≤ 0 → (wpX1_isHeir (fun r_11 s_10 => ((r_11 = 0 → (wX1_comeDown_134  post k7 (wX1_comeDown_59  post k7 n) x1 x2 x3 x4 s_10)) ∧ (¬ r_11 = 0 → (vp_in x2 24 ∧ (wpX1_divisor (fun r_16 s_15 => (vp_in x4 40 ∧ (vp_in x2 24 ∧ (¬ r_16 = 0 ∧ (vp_in x2 24 ∧ (¬ r_16 = 0 ∧ (wpX1_give (fun s_22 => (wX1_comeDown_134  post k7 (wX1_comeDown_59  post k7 n) x1 x2 x3 x4 s_22)) s_15 (sA s_15 9 x4.toNatClampNeg) ((sM s_15 39 x2.toNatClampNeg) / r_16) ((sM s_15 40 x2.toNatClampNeg) * (x3.toInt64 / r_16))))))))) s_10 (sM s_10 39 x2.toNatClampNeg) x3.toInt64))))) st x4 x2))))))
def wX1_comeDown_48  (post : CS → Prop) (k7 : Int32 → CS → Prop) (k23 : Int32 → Int32 → Int32 → Int32 → CS → Prop) (x1 : Int32) (x2 : Int32) (x4 : Int32) (y0 : Int32) (y1 : Int32) (st : CS) : Prop := (∀ x3_27 : Int32, x3_27 = (y1 + y0) → (∀ x4_28 : Int32, x4_28 = x4 + 1 → (k23 x1 x2 x3_27 x4_28 st)))
def wX1_comeDown_23  (post : CS → Prop) (k7 : Int32 → CS → Prop) : Nat → Int32 → Int32 → Int32 → Int32 → CS → Prop
  | 0 => fun _ _ _ _ _ => False
  | n + 1 => fun x1 x2 x3 x4 st => (((sI st 6) ≤ x4 → (∃ fu : Nat, wX1_comeDown_59  post k7 fu x1 x2 x3 0 st)) ∧ (¬ (sI st 6) ≤ x4 → (wpX1_isHeir (fun r_25 s_24 => ((r_25 = 0 → (wX1_comeDown_48  post k7 (wX1_comeDown_23  post k7 n) x1 x2 x4 0 x3 s_24)) ∧ (¬ r_25 = 0 → (wX1_comeDown_48  post k7 (wX1_comeDown_23  post k7 n) x1 x2 x4 1 x3 s_24)))) st x4 x2)))
def wX1_comeDown_7  (post : CS → Prop)  : Nat → Int32 → CS → Prop
  | 0 => fun _ _ => False
  | n + 1 => fun x1 st => ((x1 < 0 → (post st)) ∧ (¬ x1 < 0 → (vp_in x1 24 ∧ (∀ x2_4 : Int32, x2_4 = (sA st 38 x1.toNatClampNeg) → (∃ fu : Nat, wX1_comeDown_23  post (wX1_comeDown_7  post  n) fu x1 x2_4 0 0 st)))))
def wpX1_comeDown  (post : CS → Prop) (s0 : CS)  : Prop := (∀ x1_1 : Int32, x1_1 = ((sI s0 2) - 1) → (∃ fu : Nat, wX1_comeDown_7  post  fu x1_1 s0))
set_option maxHeartbeats 4000000 in
theorem kX1_comeDown_140  {post : CS → Prop} {k7 : Int32 → CS → Prop} (F : Fx p s m args meth c cX1_comeDown 7 RX1 none D d E A) (hk7 : ∀ (x1 : Int32) (st : CS) (H : Heap) (locs : List Loc) (ls : Array Slot), k7 x1 st → Cx D (wM o ad d) A s st H locs → lv_has ls 7 [(0, .ref o), (1, .int x1)] → W p l e (headSpec (ws_ yX1_comeDown cX1_comeDown 7 none) rmX1_comeDown).room s m args below meth c H locs 0 0 (QV below D d E (wM o ad d) A args s 0 0 post) (F0 m 7 ls [])) : ∀ (x1 : Int32) (st : CS) (H : Heap) (locs : List Loc) (ls : Array Slot), wX1_comeDown_140  post k7 x1 st → Cx D (wM o ad d) A s st H locs → lv_has ls 7 [(0, .ref o), (1, .int x1)] → W p l e (headSpec (ws_ yX1_comeDown cX1_comeDown 7 none) rmX1_comeDown).room s m args below meth c H locs 0 0 (QV below D d E (wM o ad d) A args s 0 0 post) (F0 m 140 ls []) := by
  obtain ⟨hx, hb, hr, hml, hown, hts, hlk, hA, hK, hE⟩ := id F
  intro x1 st H locs ls hw C hl
  unfold wX1_comeDown_140 at hw
  obtain ⟨x1_7, ex1_7⟩ : ∃ y : Int32, y = x1 + (-1) := ⟨_, rfl⟩
  have hw := hw x1_7 ex1_7
  refine lv_iinc (v := x1_7) (lv' := [(1, .int x1_7), (0, .ref o)]) hx hb dX1_comeDown_140 hl (k := 1) rfl (by rw [ex1_7]; rfl) (by decide) rfl (fun ls hl => ?_)
  refine lv_goto (tgt := 7) hx hb dX1_comeDown_143 (by decide) ?_
  exact hk7 x1_7 st _ _ _ hw C (lv_sub hl [1, 0] rfl)
set_option maxHeartbeats 4000000 in
theorem kX1_comeDown_134  {post : CS → Prop} {k7 : Int32 → CS → Prop} {k59 : Int32 → Int32 → Int32 → Int32 → CS → Prop} (F : Fx p s m args meth c cX1_comeDown 7 RX1 none D d E A) (hk7 : ∀ (x1 : Int32) (st : CS) (H : Heap) (locs : List Loc) (ls : Array Slot), k7 x1 st → Cx D (wM o ad d) A s st H locs → lv_has ls 7 [(0, .ref o), (1, .int x1)] → W p l e (headSpec (ws_ yX1_comeDown cX1_comeDown 7 none) rmX1_comeDown).room s m args below meth c H locs 0 0 (QV below D d E (wM o ad d) A args s 0 0 post) (F0 m 7 ls [])) (hk59 : ∀ (x1 : Int32) (x2 : Int32) (x3 : Int32) (x4 : Int32) (st : CS) (H : Heap) (locs : List Loc) (ls : Array Slot), k59 x1 x2 x3 x4 st → Cx D (wM o ad d) A s st H locs → lv_has ls 7 [(0, .ref o), (1, .int x1), (2, .int x2), (3, .int x3), (4, .int x4)] → W p l e (headSpec (ws_ yX1_comeDown cX1_comeDown 7 none) rmX1_comeDown).room s m args below meth c H locs 0 0 (QV below D d E (wM o ad d) A args s 0 0 post) (F0 m 59 ls [])) : ∀ (x1 : Int32) (x2 : Int32) (x3 : Int32) (x4 : Int32) (st : CS) (H : Heap) (locs : List Loc) (ls : Array Slot), wX1_comeDown_134  post k7 k59 x1 x2 x3 x4 st → Cx D (wM o ad d) A s st H locs → lv_has ls 7 [(0, .ref o), (1, .int x1), (2, .int x2), (3, .int x3), (4, .int x4)] → W p l e (headSpec (ws_ yX1_comeDown cX1_comeDown 7 none) rmX1_comeDown).room s m args below meth c H locs 0 0 (QV below D d E (wM o ad d) A args s 0 0 post) (F0 m 134 ls []) := by
  obtain ⟨hx, hb, hr, hml, hown, hts, hlk, hA, hK, hE⟩ := id F
  intro x1 x2 x3 x4 st H locs ls hw C hl
  unfold wX1_comeDown_134 at hw
  obtain ⟨x4_13, ex4_13⟩ : ∃ y : Int32, y = x4 + 1 := ⟨_, rfl⟩
  have hw := hw x4_13 ex4_13
  refine lv_iinc (v := x4_13) (lv' := [(4, .int x4_13), (0, .ref o), (1, .int x1), (2, .int x2), (3, .int x3)]) hx hb dX1_comeDown_134 hl (k := 4) rfl (by rw [ex4_13]; rfl) (by decide) rfl (fun ls hl => ?_)
  refine lv_goto (tgt := 59) hx hb dX1_comeDown_137 (by decide) ?_
  exact hk59 x1 x2 x3 x4_13 st _ _ _ hw C (lv_sub hl [1, 2, 3, 4, 0] rfl)
set_option maxHeartbeats 4000000 in
theorem kX1_comeDown_59  {post : CS → Prop} {k7 : Int32 → CS → Prop} (F : Fx p s m args meth c cX1_comeDown 7 RX1 none D d E A) (hk7 : ∀ (x1 : Int32) (st : CS) (H : Heap) (locs : List Loc) (ls : Array Slot), k7 x1 st → Cx D (wM o ad d) A s st H locs → lv_has ls 7 [(0, .ref o), (1, .int x1)] → W p l e (headSpec (ws_ yX1_comeDown cX1_comeDown 7 none) rmX1_comeDown).room s m args below meth c H locs 0 0 (QV below D d E (wM o ad d) A args s 0 0 post) (F0 m 7 ls [])) : ∀ (fu : Nat) (x1 : Int32) (x2 : Int32) (x3 : Int32) (x4 : Int32) (st : CS) (H : Heap) (locs : List Loc) (ls : Array Slot), wX1_comeDown_59  post k7 fu x1 x2 x3 x4 st → Cx D (wM o ad d) A s st H locs → lv_has ls 7 [(0, .ref o), (1, .int x1), (2, .int x2), (3, .int x3), (4, .int x4)] → W p l e (headSpec (ws_ yX1_comeDown cX1_comeDown 7 none) rmX1_comeDown).room s m args below meth c H locs 0 0 (QV below D d E (wM o ad d) A args s 0 0 post) (F0 m 59 ls []) := by
  obtain ⟨hx, hb, hr, hml, hown, hts, hlk, hA, hK, hE⟩ := id F
  intro fu
  induction fu with
  | zero =>
    intro x1 x2 x3 x4 st H locs ls hw
    exact hw.elim
  | succ n ih =>
    have hk59 := ih
    intro x1 x2 x3 x4 st H locs ls hw C hl
    unfold wX1_comeDown_59 at hw
    refine lv_iload hx hb dX1_comeDown_59 (lv_at hl 4 rfl) ?_
    refine lv_aload_n hx hb dX1_comeDown_61 rfl (lv_at hl 0 rfl) ?_
    refine x1_g6 F C dX1_comeDown_62 ?_
    refine lv_icmp_ge (tgt := 140) hx hb dX1_comeDown_65 (by decide) (fun c_6 => ?_) (fun c_6 => ?_)
    · have hw := hw.1 c_6
      exact kX1_comeDown_140  F hk7 x1 st _ _ _ hw C (lv_sub hl [0, 1] rfl)
    · have hw := hw.2 c_6
      refine lv_aload_n hx hb dX1_comeDown_68 rfl (lv_at hl 0 rfl) ?_
      refine x1_g39 F C dX1_comeDown_69 ?_
      refine lv_iload_n hx hb dX1_comeDown_72 rfl (lv_at hl 2 rfl) ?_
      obtain ⟨h_8, hw⟩ := hw
      refine x1_ld39 F C h_8 dX1_comeDown_73 ?_
      refine lv_lconst (v := 0) hx hb dX1_comeDown_74 (by decide) ?_
      refine W.lcmp hx hb dX1_comeDown_75 ?_
      refine lv_if_le (tgt := 140) hx hb dX1_comeDown_76 (by decide) (fun c_9 => ?_) (fun c_9 => ?_)
      · have hw := hw.1 ((lg_cmp_le _ _).mp c_9)
        exact kX1_comeDown_140  F hk7 x1 st _ _ _ hw C (lv_sub hl [0, 1] rfl)
      · have hw := hw.2 (fun h9 => c_9 ((lg_cmp_le _ _).mpr h9))
        refine lv_aload_n hx hb dX1_comeDown_79 rfl (lv_at hl 0 rfl) ?_
        refine lv_iload hx hb dX1_comeDown_80 (lv_at hl 4 rfl) ?_
        refine lv_iload_n hx hb dX1_comeDown_82 rfl (lv_at hl 2 rfl) ?_
        refine x_callI (rest := []) (ci := 5) (q := (RX1, TX1, 55)) F C (ctX1_isHeir hE hw) (cwV 2 hts (lw_V q1177 q1179 qs59 q71 q1180) rfl rfl rfl (by decide +kernel) ⟨Nat.le_of_ble_eq_true rfl, Nat.le_of_ble_eq_true rfl⟩) rfl rfl rfl hl.1 rfl (Nat.le_of_ble_eq_true rfl) dX1_comeDown_83 ⟨Nat.zero_le _, Nat.zero_le _⟩ (fun r_11 s_10 H locs hw C => ?_)
        refine lv_if_eq (tgt := 134) hx hb dX1_comeDown_86 (by decide) (fun c_12 => ?_) (fun c_12 => ?_)
        · have hw := hw.1 c_12
          exact kX1_comeDown_134  F hk7 hk59 x1 x2 x3 x4 s_10 _ _ _ hw C hl
        · have hw := hw.2 c_12
          refine lv_aload_n hx hb dX1_comeDown_89 rfl (lv_at hl 0 rfl) ?_
          refine x1_g39 F C dX1_comeDown_90 ?_
          refine lv_iload_n hx hb dX1_comeDown_93 rfl (lv_at hl 2 rfl) ?_
          obtain ⟨h_14, hw⟩ := hw
          refine x1_ld39 F C h_14 dX1_comeDown_94 ?_
          refine lv_iload_n hx hb dX1_comeDown_95 rfl (lv_at hl 3 rfl) ?_
          refine lv_i2l (v := x3.toInt64) hx hb dX1_comeDown_96 rfl ?_
          refine x_callSL (rest := []) F C (ctX1_divisor hE hw) (va_cwS 2 hts (lw_S q1166 q1167 q71 q1168) rfl rfl rfl (by decide +kernel) ⟨Nat.le_of_ble_eq_true rfl, Nat.le_of_ble_eq_true rfl⟩) rfl hl.1 rfl (Nat.le_of_ble_eq_true rfl) dX1_comeDown_97 ⟨Nat.zero_le _, Nat.zero_le _⟩ (fun r_16 s_15 H locs hw C => ?_)
          refine lv_lstore (lv' := [(5, .long r_16), (0, .ref o), (1, .int x1), (2, .int x2), (3, .int x3), (4, .int x4)]) hx hb dX1_comeDown_100 hl (by decide) rfl (fun ls hl => ?_)
          refine lv_aload_n hx hb dX1_comeDown_102 rfl (lv_at hl 1 rfl) ?_
          refine lv_aload_n hx hb dX1_comeDown_103 rfl (lv_at hl 1 rfl) ?_
          refine x1_g9 F C dX1_comeDown_104 ?_
          refine lv_iload hx hb dX1_comeDown_107 (lv_at hl 5 rfl) ?_
          obtain ⟨h_17, hw⟩ := hw
          refine x1_ld9 F C h_17 dX1_comeDown_109 ?_
          refine lv_aload_n hx hb dX1_comeDown_110 rfl (lv_at hl 1 rfl) ?_
          refine x1_g39 F C dX1_comeDown_111 ?_
          refine lv_iload_n hx hb dX1_comeDown_114 rfl (lv_at hl 3 rfl) ?_
          obtain ⟨h_18, hw⟩ := hw
          refine x1_ld39 F C h_18 dX1_comeDown_115 ?_
          refine lv_lload hx hb dX1_comeDown_116 (lv_at hl 0 rfl) ?_
          obtain ⟨h_19, hw⟩ := hw
          refine lv_ldiv hx hb dX1_comeDown_118 h_19 ?_
          refine lv_aload_n hx hb dX1_comeDown_119 rfl (lv_at hl 1 rfl) ?_
          refine x1_g40 F C dX1_comeDown_120 ?_
          refine lv_iload_n hx hb dX1_comeDown_123 rfl (lv_at hl 3 rfl) ?_
          obtain ⟨h_20, hw⟩ := hw
          refine x1_ld40 F C h_20 dX1_comeDown_124 ?_
          refine lv_iload_n hx hb dX1_comeDown_125 rfl (lv_at hl 4 rfl) ?_
          refine lv_i2l (v := x3.toInt64) hx hb dX1_comeDown_126 rfl ?_
          refine lv_lload hx hb dX1_comeDown_127 (lv_at hl 0 rfl) ?_
          obtain ⟨h_21, hw⟩ := hw
          refine lv_ldiv hx hb dX1_comeDown_129 h_21 ?_
          refine lv_lmul hx hb dX1_comeDown_130 ?_
          refine x_callV (rest := []) (ci := 5) (q := (RX1, TX1, 55)) F C (ctX1_give hE hw) (cwV 3 hts (lw_V q1169 q1171 qs57 q71 q1172) rfl rfl rfl (by decide +kernel) ⟨Nat.le_of_ble_eq_true rfl, Nat.le_of_ble_eq_true rfl⟩) rfl rfl rfl hl.1 rfl (Nat.le_of_ble_eq_true rfl) dX1_comeDown_131 ⟨Nat.zero_le _, Nat.zero_le _⟩ (fun s_22 H locs hw C => ?_)
          exact kX1_comeDown_134  F hk7 hk59 x1 x2 x3 x4 s_22 _ _ _ hw C (lv_sub hl [1, 2, 3, 4, 5] rfl)
set_option maxHeartbeats 4000000 in
theorem kX1_comeDown_48  {post : CS → Prop} {k7 : Int32 → CS → Prop} {k23 : Int32 → Int32 → Int32 → Int32 → CS → Prop} (F : Fx p s m args meth c cX1_comeDown 7 RX1 none D d E A) (hk7 : ∀ (x1 : Int32) (st : CS) (H : Heap) (locs : List Loc) (ls : Array Slot), k7 x1 st → Cx D (wM o ad d) A s st H locs → lv_has ls 7 [(0, .ref o), (1, .int x1)] → W p l e (headSpec (ws_ yX1_comeDown cX1_comeDown 7 none) rmX1_comeDown).room s m args below meth c H locs 0 0 (QV below D d E (wM o ad d) A args s 0 0 post) (F0 m 7 ls [])) (hk23 : ∀ (x1 : Int32) (x2 : Int32) (x3 : Int32) (x4 : Int32) (st : CS) (H : Heap) (locs : List Loc) (ls : Array Slot), k23 x1 x2 x3 x4 st → Cx D (wM o ad d) A s st H locs → lv_has ls 7 [(0, .ref o), (1, .int x1), (2, .int x2), (3, .int x3), (4, .int x4)] → W p l e (headSpec (ws_ yX1_comeDown cX1_comeDown 7 none) rmX1_comeDown).room s m args below meth c H locs 0 0 (QV below D d E (wM o ad d) A args s 0 0 post) (F0 m 23 ls [])) : ∀ (x1 : Int32) (x2 : Int32) (x4 : Int32) (y0 : Int32) (y1 : Int32) (st : CS) (H : Heap) (locs : List Loc) (ls : Array Slot), wX1_comeDown_48  post k7 k23 x1 x2 x4 y0 y1 st → Cx D (wM o ad d) A s st H locs → lv_has ls 7 [(0, .ref o), (1, .int x1), (2, .int x2), (4, .int x4)] → W p l e (headSpec (ws_ yX1_comeDown cX1_comeDown 7 none) rmX1_comeDown).room s m args below meth c H locs 0 0 (QV below D d E (wM o ad d) A args s 0 0 post) (F0 m 48 ls [.int y0, .int y1]) := by
  obtain ⟨hx, hb, hr, hml, hown, hts, hlk, hA, hK, hE⟩ := id F
  intro x1 x2 x4 y0 y1 st H locs ls hw C hl
  unfold wX1_comeDown_48 at hw
  refine lv_iadd hx hb dX1_comeDown_48 ?_
  refine lv_topi (fun x3_27 ex3_27 => ?_)
  have hw := hw x3_27 ex3_27
  refine lv_istore_n (lv' := [(3, .int x3_27), (0, .ref o), (1, .int x1), (2, .int x2), (4, .int x4)]) hx hb dX1_comeDown_49 rfl hl (by decide) rfl (fun ls hl => ?_)
  obtain ⟨x4_28, ex4_28⟩ : ∃ y : Int32, y = x4 + 1 := ⟨_, rfl⟩
  have hw := hw x4_28 ex4_28
  refine lv_iinc (v := x4_28) (lv' := [(4, .int x4_28), (3, .int x3_27), (0, .ref o), (1, .int x1), (2, .int x2)]) hx hb dX1_comeDown_50 hl (k := 4) rfl (by rw [ex4_28]; rfl) (by decide) rfl (fun ls hl => ?_)
  refine lv_goto (tgt := 23) hx hb dX1_comeDown_53 (by decide) ?_
  exact hk23 x1 x2 x3_27 x4_28 st _ _ _ hw C (lv_sub hl [2, 3, 4, 1, 0] rfl)
set_option maxHeartbeats 4000000 in
theorem kX1_comeDown_23  {post : CS → Prop} {k7 : Int32 → CS → Prop} (F : Fx p s m args meth c cX1_comeDown 7 RX1 none D d E A) (hk7 : ∀ (x1 : Int32) (st : CS) (H : Heap) (locs : List Loc) (ls : Array Slot), k7 x1 st → Cx D (wM o ad d) A s st H locs → lv_has ls 7 [(0, .ref o), (1, .int x1)] → W p l e (headSpec (ws_ yX1_comeDown cX1_comeDown 7 none) rmX1_comeDown).room s m args below meth c H locs 0 0 (QV below D d E (wM o ad d) A args s 0 0 post) (F0 m 7 ls [])) : ∀ (fu : Nat) (x1 : Int32) (x2 : Int32) (x3 : Int32) (x4 : Int32) (st : CS) (H : Heap) (locs : List Loc) (ls : Array Slot), wX1_comeDown_23  post k7 fu x1 x2 x3 x4 st → Cx D (wM o ad d) A s st H locs → lv_has ls 7 [(0, .ref o), (1, .int x1), (2, .int x2), (3, .int x3), (4, .int x4)] → W p l e (headSpec (ws_ yX1_comeDown cX1_comeDown 7 none) rmX1_comeDown).room s m args below meth c H locs 0 0 (QV below D d E (wM o ad d) A args s 0 0 post) (F0 m 23 ls []) := by
  obtain ⟨hx, hb, hr, hml, hown, hts, hlk, hA, hK, hE⟩ := id F
  intro fu
  induction fu with
  | zero =>
    intro x1 x2 x3 x4 st H locs ls hw
    exact hw.elim
  | succ n ih =>
    have hk23 := ih
    intro x1 x2 x3 x4 st H locs ls hw C hl
    unfold wX1_comeDown_23 at hw
    refine lv_iload hx hb dX1_comeDown_23 (lv_at hl 4 rfl) ?_
    refine lv_aload_n hx hb dX1_comeDown_25 rfl (lv_at hl 0 rfl) ?_
    refine x1_g6 F C dX1_comeDown_26 ?_
    refine lv_icmp_ge (tgt := 56) hx hb dX1_comeDown_29 (by decide) (fun c_5 => ?_) (fun c_5 => ?_)
    · have hw := hw.1 c_5
      refine lv_iconst (v := 0) hx hb dX1_comeDown_56 (by decide) ?_
      refine lv_istore (lv' := [(4, .int 0), (0, .ref o), (1, .int x1), (2, .int x2), (3, .int x3)]) hx hb dX1_comeDown_57 hl (by decide) rfl (fun ls hl => ?_)
      obtain ⟨fu, hw⟩ := hw
      exact kX1_comeDown_59  F hk7 fu x1 x2 x3 0 st _ _ _ hw C (lv_sub hl [1, 2, 3, 4, 0] rfl)
    · have hw := hw.2 c_5
      refine lv_iload_n hx hb dX1_comeDown_32 rfl (lv_at hl 3 rfl) ?_
      refine lv_aload_n hx hb dX1_comeDown_33 rfl (lv_at hl 0 rfl) ?_
      refine lv_iload hx hb dX1_comeDown_34 (lv_at hl 4 rfl) ?_
      refine lv_iload_n hx hb dX1_comeDown_36 rfl (lv_at hl 2 rfl) ?_
      refine x_callI (rest := [.int x3]) (ci := 5) (q := (RX1, TX1, 55)) F C (ctX1_isHeir hE hw) (cwV 2 hts (lw_V q1177 q1179 qs59 q71 q1180) rfl rfl rfl (by decide +kernel) ⟨Nat.le_of_ble_eq_true rfl, Nat.le_of_ble_eq_true rfl⟩) rfl rfl rfl hl.1 rfl (Nat.le_of_ble_eq_true rfl) dX1_comeDown_37 ⟨Nat.zero_le _, Nat.zero_le _⟩ (fun r_25 s_24 H locs hw C => ?_)
      refine lv_if_eq (tgt := 47) hx hb dX1_comeDown_40 (by decide) (fun c_26 => ?_) (fun c_26 => ?_)
      · have hw := hw.1 c_26
        refine lv_iconst (v := 0) hx hb dX1_comeDown_47 (by decide) ?_
        exact kX1_comeDown_48  F hk7 hk23 x1 x2 x4 0 x3 s_24 _ _ _ hw C (lv_sub hl [0, 1, 2, 4] rfl)
      · have hw := hw.2 c_26
        refine lv_iconst (v := 1) hx hb dX1_comeDown_43 (by decide) ?_
        refine lv_goto (tgt := 48) hx hb dX1_comeDown_44 (by decide) ?_
        exact kX1_comeDown_48  F hk7 hk23 x1 x2 x4 1 x3 s_24 _ _ _ hw C (lv_sub hl [0, 1, 2, 4] rfl)
set_option maxHeartbeats 4000000 in
theorem kX1_comeDown_7  {post : CS → Prop}  (F : Fx p s m args meth c cX1_comeDown 7 RX1 none D d E A) : ∀ (fu : Nat) (x1 : Int32) (st : CS) (H : Heap) (locs : List Loc) (ls : Array Slot), wX1_comeDown_7  post  fu x1 st → Cx D (wM o ad d) A s st H locs → lv_has ls 7 [(0, .ref o), (1, .int x1)] → W p l e (headSpec (ws_ yX1_comeDown cX1_comeDown 7 none) rmX1_comeDown).room s m args below meth c H locs 0 0 (QV below D d E (wM o ad d) A args s 0 0 post) (F0 m 7 ls []) := by
  obtain ⟨hx, hb, hr, hml, hown, hts, hlk, hA, hK, hE⟩ := id F
  intro fu
  induction fu with
  | zero =>
    intro x1 st H locs ls hw
    exact hw.elim
  | succ n ih =>
    have hk7 := ih
    intro x1 st H locs ls hw C hl
    unfold wX1_comeDown_7 at hw
    refine lv_iload_n hx hb dX1_comeDown_7 rfl (lv_at hl 1 rfl) ?_
    refine lv_if_lt (tgt := 146) hx hb dX1_comeDown_8 (by decide) (fun c_2 => ?_) (fun c_2 => ?_)
    · have hw := hw.1 c_2
      exact x_vret F C hw dX1_comeDown_146
    · have hw := hw.2 c_2
      refine lv_aload_n hx hb dX1_comeDown_11 rfl (lv_at hl 0 rfl) ?_
      refine x1_g38 F C dX1_comeDown_12 ?_
      refine lv_iload_n hx hb dX1_comeDown_15 rfl (lv_at hl 1 rfl) ?_
      obtain ⟨h_3, hw⟩ := hw
      refine x1_ld38 F C h_3 dX1_comeDown_16 ?_
      refine lv_topi (fun x2_4 ex2_4 => ?_)
      have hw := hw x2_4 ex2_4
      refine lv_istore_n (lv' := [(2, .int x2_4), (0, .ref o), (1, .int x1)]) hx hb dX1_comeDown_17 rfl hl (by decide) rfl (fun ls hl => ?_)
      refine lv_iconst (v := 0) hx hb dX1_comeDown_18 (by decide) ?_
      refine lv_istore_n (lv' := [(3, .int 0), (2, .int x2_4), (0, .ref o), (1, .int x1)]) hx hb dX1_comeDown_19 rfl hl (by decide) rfl (fun ls hl => ?_)
      refine lv_iconst (v := 0) hx hb dX1_comeDown_20 (by decide) ?_
      refine lv_istore (lv' := [(4, .int 0), (3, .int 0), (2, .int x2_4), (0, .ref o), (1, .int x1)]) hx hb dX1_comeDown_21 hl (by decide) rfl (fun ls hl => ?_)
      obtain ⟨fu, hw⟩ := hw
      exact kX1_comeDown_23  F hk7 fu x1 x2_4 0 0 st _ _ _ hw C (lv_sub hl [3, 4, 2, 1, 0] rfl)
theorem ctX1_comeDown (hE : Em E)  {post : CS → Prop} {s0 : CS}  (hw : wpX1_comeDown  post s0 ) : CtV l yX1_comeDown (ws_ yX1_comeDown cX1_comeDown 7 none) rmX1_comeDown D d E (wM o ad d) 0 0 [.ref o] s0 post := by
  refine CtV.of hE (by decide) rfl (Nat.le_of_ble_eq_true rfl) ?_
  intro p e s m below meth c A ls F C hl
  have hl : lv_has ls 7 [(0, .ref o)] := hl
  unfold wpX1_comeDown at hw
  obtain ⟨hx, hb, hr, hml, hown, hts, hlk, hA, hK, -⟩ := id F
  refine lv_aload_n hx hb dX1_comeDown_0 rfl (lv_at hl 0 rfl) ?_
  refine x1_g2 F C dX1_comeDown_1 ?_
  refine lv_iconst (v := 1) hx hb dX1_comeDown_4 (by decide) ?_
  refine lv_isub hx hb dX1_comeDown_5 ?_
  refine lv_topi (fun x1_1 ex1_1 => ?_)
  have hw := hw x1_1 ex1_1
  refine lv_istore_n (lv' := [(1, .int x1_1), (0, .ref o)]) hx hb dX1_comeDown_6 rfl hl (by decide) rfl (fun ls hl => ?_)
  obtain ⟨fu, hw⟩ := hw
  exact kX1_comeDown_7  F  fu x1_1 s0 _ _ _ hw C (lv_sub hl [1, 0] rfl)

abbrev rmX1_mayTake : Room := { frames := 0, cells := 0, slots := 0, locals := 0 }
def wX1_mayTake_18  (post : Int32 → CS → Prop)   (st : CS) : Prop := (post 1 st)
def wpX1_mayTake  (post : Int32 → CS → Prop) (s0 : CS) (p0 : Int32) : Prop := (vp_in p0 24 ∧ (((sA s0 34 p0.toNatClampNeg) = 0 → (vp_in p0 24 ∧ (((sA s0 35 p0.toNatClampNeg) = 0 → (post 0 s0)) ∧ (¬ (sA s0 35 p0.toNatClampNeg) = 0 → (wX1_mayTake_18  post  s0))))) ∧ (¬ (sA s0 34 p0.toNatClampNeg) = 0 → (wX1_mayTake_18  post  s0))))
set_option maxHeartbeats 4000000 in
theorem kX1_mayTake_18  {post : Int32 → CS → Prop}  (F : Fx p s m args meth c cX1_mayTake 2 RX1 (some .boolean) D d E A) : ∀  (st : CS) (H : Heap) (locs : List Loc) (ls : Array Slot), wX1_mayTake_18  post  st → Cx D (wM o ad d) A s st H locs → lv_has ls 2 [] → W p l e (headSpec (ws_ yX1_mayTake cX1_mayTake 2 (some .boolean)) rmX1_mayTake).room s m args below meth c H locs 0 0 (QI below D d E (wM o ad d) A args s 0 0 post) (F0 m 18 ls []) := by
  obtain ⟨hx, hb, hr, hml, hown, hts, hlk, hA, hK, hE⟩ := id F
  intro st H locs ls hw C hl
  unfold wX1_mayTake_18 at hw
  refine lv_iconst (v := 1) hx hb dX1_mayTake_18 (by decide) ?_
  refine lv_goto (tgt := 23) hx hb dX1_mayTake_19 (by decide) ?_
  exact x_zret F C zb_1 hw dX1_mayTake_23
theorem ctX1_mayTake (hE : Em E)  {post : Int32 → CS → Prop} {s0 : CS} {p0 : Int32} (hw : wpX1_mayTake  post s0 p0) : CtI l yX1_mayTake (ws_ yX1_mayTake cX1_mayTake 2 (some .boolean)) rmX1_mayTake D d E (wM o ad d) 0 0 [.ref o, .int p0] s0 post := by
  refine CtI.of hE (by decide) rfl (Nat.le_of_ble_eq_true rfl) ?_
  intro p e s m below meth c A ls F C hl
  have hl : lv_has ls 2 [(0, .ref o), (1, .int p0)] := hl
  unfold wpX1_mayTake at hw
  obtain ⟨hx, hb, hr, hml, hown, hts, hlk, hA, hK, -⟩ := id F
  refine lv_aload_n hx hb dX1_mayTake_0 rfl (lv_at hl 0 rfl) ?_
  refine x1_g34 F C dX1_mayTake_1 ?_
  refine lv_iload_n hx hb dX1_mayTake_4 rfl (lv_at hl 1 rfl) ?_
  obtain ⟨h_1, hw⟩ := hw
  refine x1_ld34 F C h_1 dX1_mayTake_5 ?_
  refine lv_if_ne (tgt := 18) hx hb dX1_mayTake_6 (by decide) (fun c_2 => ?_) (fun c_2 => ?_)
  · have hw := hw.2 c_2
    exact kX1_mayTake_18  F  s0 _ _ _ hw C (lv_sub hl [] rfl)
  · have hw := hw.1 c_2
    refine lv_aload_n hx hb dX1_mayTake_9 rfl (lv_at hl 0 rfl) ?_
    refine x1_g35 F C dX1_mayTake_10 ?_
    refine lv_iload_n hx hb dX1_mayTake_13 rfl (lv_at hl 1 rfl) ?_
    obtain ⟨h_3, hw⟩ := hw
    refine x1_ld35 F C h_3 dX1_mayTake_14 ?_
    refine lv_if_eq (tgt := 22) hx hb dX1_mayTake_15 (by decide) (fun c_4 => ?_) (fun c_4 => ?_)
    · have hw := hw.1 c_4
      refine lv_iconst (v := 0) hx hb dX1_mayTake_22 (by decide) ?_
      exact x_zret F C zb_0 hw dX1_mayTake_23
    · have hw := hw.2 c_4
      exact kX1_mayTake_18  F  s0 _ _ _ hw C (lv_sub hl [] rfl)

abbrev rmX1_addHead : Room := { frames := 1, cells := 0, slots := 0, locals := 21 }
def wpX1_addHead  (post : CS → Prop) (s0 : CS) (p0 : Int32) : Prop := (wpX1_mayTake (fun r_2 s_1 => ((r_2 = 0 → (post s_1)) ∧ (¬ r_2 = 0 → (vp_in (sI s_1 41) 64 ∧ ∀ s_5 : CS, s_5 = uA s_1 42 (sI s_1 41).toNatClampNeg p0 → (∀ s_6 : CS, s_6 = uI s_5 41 ((sI s_5 41) + 1) → (post s_6)))))) s0 p0)
theorem ctX1_addHead (hE : Em E)  {post : CS → Prop} {s0 : CS} {p0 : Int32} (hw : wpX1_addHead  post s0 p0) : CtV l yX1_addHead (ws_ yX1_addHead cX1_addHead 2 none) rmX1_addHead D d E (wM o ad d) 0 0 [.ref o, .int p0] s0 post := by
  refine CtV.of hE (by decide) rfl (Nat.le_of_ble_eq_true rfl) ?_
  intro p e s m below meth c A ls F C hl
  have hl : lv_has ls 2 [(0, .ref o), (1, .int p0)] := hl
  unfold wpX1_addHead at hw
  obtain ⟨hx, hb, hr, hml, hown, hts, hlk, hA, hK, -⟩ := id F
  refine lv_aload_n hx hb dX1_addHead_0 rfl (lv_at hl 0 rfl) ?_
  refine lv_iload_n hx hb dX1_addHead_1 rfl (lv_at hl 1 rfl) ?_
  refine x_callI (rest := []) (ci := 5) (q := (RX1, TX1, 55)) F C (ctX1_mayTake hE hw) (cwV 1 hts (lw_V q1150 q1152 qs53 q71 q1153) rfl rfl rfl (by decide +kernel) ⟨Nat.le_of_ble_eq_true rfl, Nat.le_of_ble_eq_true rfl⟩) rfl rfl rfl hl.1 rfl (Nat.le_of_ble_eq_true rfl) dX1_addHead_2 ⟨Nat.zero_le _, Nat.zero_le _⟩ (fun r_2 s_1 H locs hw C => ?_)
  refine lv_if_eq (tgt := 28) hx hb dX1_addHead_5 (by decide) (fun c_3 => ?_) (fun c_3 => ?_)
  · have hw := hw.1 c_3
    exact x_vret F C hw dX1_addHead_28
  · have hw := hw.2 c_3
    refine lv_aload_n hx hb dX1_addHead_8 rfl (lv_at hl 0 rfl) ?_
    refine x1_g42 F C dX1_addHead_9 ?_
    refine lv_aload_n hx hb dX1_addHead_12 rfl (lv_at hl 0 rfl) ?_
    refine x1_g41 F C dX1_addHead_13 ?_
    refine lv_iload_n hx hb dX1_addHead_16 rfl (lv_at hl 1 rfl) ?_
    obtain ⟨h_4, hw⟩ := hw
    refine x1_st42 F C h_4 dX1_addHead_17 (fun H locs s_5 es_5 C => ?_)
    have hw := hw s_5 es_5
    refine lv_aload_n hx hb dX1_addHead_18 rfl (lv_at hl 0 rfl) ?_
    refine lv_dup hx hb dX1_addHead_19 rfl ?_
    refine x1_g41 F C dX1_addHead_20 ?_
    refine lv_iconst (v := 1) hx hb dX1_addHead_23 (by decide) ?_
    refine lv_iadd hx hb dX1_addHead_24 ?_
    refine x1_p41 F C dX1_addHead_25 (fun H locs s_6 es_6 C => ?_)
    have hw := hw s_6 es_6
    exact x_vret F C hw dX1_addHead_28

abbrev rmX1_setHeads : Room := { frames := 2, cells := 0, slots := 0, locals := 42 }
def wX1_setHeads_107  (post : CS → Prop) (k7 : Int32 → Int32 → CS → Prop) (x1 : Int32) (x2 : Int32) (st : CS) : Prop := (∀ x2_5 : Int32, x2_5 = x2 + 1 → (k7 x1 x2_5 st))
def wX1_setHeads_101  (post : CS → Prop) (k7 : Int32 → Int32 → CS → Prop) (k54 : Int32 → Int32 → Int32 → CS → Prop) (x1 : Int32) (x2 : Int32) (x3 : Int32) (st : CS) : Prop := (∀ x3_13 : Int32, x3_13 = x3 + 1 → (k54 x1 x2 x3_13 st))
def wX1_setHeads_54  (post : CS → Prop) (k7 : Int32 → Int32 → CS → Prop) : Nat → Int32 → Int32 → Int32 → CS → Prop
  | 0 => fun _ _ _ _ => False
  | n + 1 => fun x1 x2 x3 st => (((sI st 6) ≤ x3 → (wX1_setHeads_107  post k7 x1 x2 st)) ∧ (¬ (sI st 6) ≤ x3 → ((x1 = 3 → (vp_in x3 40 ∧ (((sA st 33 x3.toNatClampNeg) = 0 → (wX1_setHeads_101  post k7 (wX1_setHeads_54  post k7 n) x1 x2 x3 st)) ∧ (¬ (sA st 33 x3.toNatClampNeg) = 0 → (vp_in x3 40 ∧ (vp_in x2 40 ∧ (((sA st 9 x3.toNatClampNeg) = (sA st 8 x2.toNatClampNeg) → (vp_in x3 40 ∧ (wpX1_addHead (fun s_18 => (wX1_setHeads_101  post k7 (wX1_setHeads_54  post k7 n) x1 x2 x3 s_18)) st (sA st 8 x3.toNatClampNeg)))) ∧ (¬ (sA st 9 x3.toNatClampNeg) = (sA st 8 x2.toNatClampNeg) → (wX1_setHeads_101  post k7 (wX1_setHeads_54  post k7 n) x1 x2 x3 st))))))))) ∧ (¬ x1 = 3 → (wX1_setHeads_107  post k7 x1 x2 st)))))
def wX1_setHeads_52  (post : CS → Prop) (k7 : Int32 → Int32 → CS → Prop) (x1 : Int32) (x2 : Int32) (st : CS) : Prop := (∃ fu : Nat, wX1_setHeads_54  post k7 fu x1 x2 0 st)
def wX1_setHeads_7  (post : CS → Prop)  : Nat → Int32 → Int32 → CS → Prop
  | 0 => fun _ _ _ => False
  | n + 1 => fun x1 x2 st => (((sI st 6) ≤ x2 → (post st)) ∧ (¬ (sI st 6) ≤ x2 → (vp_in x2 40 ∧ (((sA st 33 x2.toNatClampNeg) = 0 → (wX1_setHeads_107  post (wX1_setHeads_7  post  n) x1 x2 st)) ∧ (¬ (sA st 33 x2.toNatClampNeg) = 0 → (vp_in x2 40 ∧ (((sA st 9 x2.toNatClampNeg) = (sI st 30) → ((x1 = 2 → (vp_in x2 40 ∧ (wpX1_addHead (fun s_21 => (wX1_setHeads_52  post (wX1_setHeads_7  post  n) x1 x2 s_21)) st (sA st 8 x2.toNatClampNeg)))) ∧ (¬ x1 = 2 → (wX1_setHeads_52  post (wX1_setHeads_7  post  n) x1 x2 st)))) ∧ (¬ (sA st 9 x2.toNatClampNeg) = (sI st 30) → (wX1_setHeads_107  post (wX1_setHeads_7  post  n) x1 x2 st)))))))))
def wpX1_setHeads  (post : CS → Prop) (s0 : CS) (p0 : Int32) : Prop := (∀ s_1 : CS, s_1 = uI s0 41 0 → (∃ fu : Nat, wX1_setHeads_7  post  fu p0 0 s_1))
set_option maxHeartbeats 4000000 in
theorem kX1_setHeads_107  {post : CS → Prop} {k7 : Int32 → Int32 → CS → Prop} (F : Fx p s m args meth c cX1_setHeads 4 RX1 none D d E A) (hk7 : ∀ (x1 : Int32) (x2 : Int32) (st : CS) (H : Heap) (locs : List Loc) (ls : Array Slot), k7 x1 x2 st → Cx D (wM o ad d) A s st H locs → lv_has ls 4 [(0, .ref o), (1, .int x1), (2, .int x2)] → W p l e (headSpec (ws_ yX1_setHeads cX1_setHeads 4 none) rmX1_setHeads).room s m args below meth c H locs 0 0 (QV below D d E (wM o ad d) A args s 0 0 post) (F0 m 7 ls [])) : ∀ (x1 : Int32) (x2 : Int32) (st : CS) (H : Heap) (locs : List Loc) (ls : Array Slot), wX1_setHeads_107  post k7 x1 x2 st → Cx D (wM o ad d) A s st H locs → lv_has ls 4 [(0, .ref o), (1, .int x1), (2, .int x2)] → W p l e (headSpec (ws_ yX1_setHeads cX1_setHeads 4 none) rmX1_setHeads).room s m args below meth c H locs 0 0 (QV below D d E (wM o ad d) A args s 0 0 post) (F0 m 107 ls []) := by
  obtain ⟨hx, hb, hr, hml, hown, hts, hlk, hA, hK, hE⟩ := id F
  intro x1 x2 st H locs ls hw C hl
  unfold wX1_setHeads_107 at hw
  obtain ⟨x2_5, ex2_5⟩ : ∃ y : Int32, y = x2 + 1 := ⟨_, rfl⟩
  have hw := hw x2_5 ex2_5
  refine lv_iinc (v := x2_5) (lv' := [(2, .int x2_5), (0, .ref o), (1, .int x1)]) hx hb dX1_setHeads_107 hl (k := 2) rfl (by rw [ex2_5]; rfl) (by decide) rfl (fun ls hl => ?_)
  refine lv_goto (tgt := 7) hx hb dX1_setHeads_110 (by decide) ?_
  exact hk7 x1 x2_5 st _ _ _ hw C (lv_sub hl [1, 2, 0] rfl)
set_option maxHeartbeats 4000000 in
theorem kX1_setHeads_101  {post : CS → Prop} {k7 : Int32 → Int32 → CS → Prop} {k54 : Int32 → Int32 → Int32 → CS → Prop} (F : Fx p s m args meth c cX1_setHeads 4 RX1 none D d E A) (hk7 : ∀ (x1 : Int32) (x2 : Int32) (st : CS) (H : Heap) (locs : List Loc) (ls : Array Slot), k7 x1 x2 st → Cx D (wM o ad d) A s st H locs → lv_has ls 4 [(0, .ref o), (1, .int x1), (2, .int x2)] → W p l e (headSpec (ws_ yX1_setHeads cX1_setHeads 4 none) rmX1_setHeads).room s m args below meth c H locs 0 0 (QV below D d E (wM o ad d) A args s 0 0 post) (F0 m 7 ls [])) (hk54 : ∀ (x1 : Int32) (x2 : Int32) (x3 : Int32) (st : CS) (H : Heap) (locs : List Loc) (ls : Array Slot), k54 x1 x2 x3 st → Cx D (wM o ad d) A s st H locs → lv_has ls 4 [(0, .ref o), (1, .int x1), (2, .int x2), (3, .int x3)] → W p l e (headSpec (ws_ yX1_setHeads cX1_setHeads 4 none) rmX1_setHeads).room s m args below meth c H locs 0 0 (QV below D d E (wM o ad d) A args s 0 0 post) (F0 m 54 ls [])) : ∀ (x1 : Int32) (x2 : Int32) (x3 : Int32) (st : CS) (H : Heap) (locs : List Loc) (ls : Array Slot), wX1_setHeads_101  post k7 k54 x1 x2 x3 st → Cx D (wM o ad d) A s st H locs → lv_has ls 4 [(0, .ref o), (1, .int x1), (2, .int x2), (3, .int x3)] → W p l e (headSpec (ws_ yX1_setHeads cX1_setHeads 4 none) rmX1_setHeads).room s m args below meth c H locs 0 0 (QV below D d E (wM o ad d) A args s 0 0 post) (F0 m 101 ls []) := by
  obtain ⟨hx, hb, hr, hml, hown, hts, hlk, hA, hK, hE⟩ := id F
  intro x1 x2 x3 st H locs ls hw C hl
  unfold wX1_setHeads_101 at hw
  obtain ⟨x3_13, ex3_13⟩ : ∃ y : Int32, y = x3 + 1 := ⟨_, rfl⟩
  have hw := hw x3_13 ex3_13
  refine lv_iinc (v := x3_13) (lv' := [(3, .int x3_13), (0, .ref o), (1, .int x1), (2, .int x2)]) hx hb dX1_setHeads_101 hl (k := 3) rfl (by rw [ex3_13]; rfl) (by decide) rfl (fun ls hl => ?_)
  refine lv_goto (tgt := 54) hx hb dX1_setHeads_104 (by decide) ?_
  exact hk54 x1 x2 x3_13 st _ _ _ hw C (lv_sub hl [1, 2, 3, 0] rfl)
set_option maxHeartbeats 4000000 in
theorem kX1_setHeads_54  {post : CS → Prop} {k7 : Int32 → Int32 → CS → Prop} (F : Fx p s m args meth c cX1_setHeads 4 RX1 none D d E A) (hk7 : ∀ (x1 : Int32) (x2 : Int32) (st : CS) (H : Heap) (locs : List Loc) (ls : Array Slot), k7 x1 x2 st → Cx D (wM o ad d) A s st H locs → lv_has ls 4 [(0, .ref o), (1, .int x1), (2, .int x2)] → W p l e (headSpec (ws_ yX1_setHeads cX1_setHeads 4 none) rmX1_setHeads).room s m args below meth c H locs 0 0 (QV below D d E (wM o ad d) A args s 0 0 post) (F0 m 7 ls [])) : ∀ (fu : Nat) (x1 : Int32) (x2 : Int32) (x3 : Int32) (st : CS) (H : Heap) (locs : List Loc) (ls : Array Slot), wX1_setHeads_54  post k7 fu x1 x2 x3 st → Cx D (wM o ad d) A s st H locs → lv_has ls 4 [(0, .ref o), (1, .int x1), (2, .int x2), (3, .int x3)] → W p l e (headSpec (ws_ yX1_setHeads cX1_setHeads 4 none) rmX1_setHeads).room s m args below meth c H locs 0 0 (QV below D d E (wM o ad d) A args s 0 0 post) (F0 m 54 ls []) := by
  obtain ⟨hx, hb, hr, hml, hown, hts, hlk, hA, hK, hE⟩ := id F
  intro fu
  induction fu with
  | zero =>
    intro x1 x2 x3 st H locs ls hw
    exact hw.elim
  | succ n ih =>
    have hk54 := ih
    intro x1 x2 x3 st H locs ls hw C hl
    unfold wX1_setHeads_54 at hw
    refine lv_iload_n hx hb dX1_setHeads_54 rfl (lv_at hl 3 rfl) ?_
    refine lv_aload_n hx hb dX1_setHeads_55 rfl (lv_at hl 0 rfl) ?_
    refine x1_g6 F C dX1_setHeads_56 ?_
    refine lv_icmp_ge (tgt := 107) hx hb dX1_setHeads_59 (by decide) (fun c_9 => ?_) (fun c_9 => ?_)
    · have hw := hw.1 c_9
      exact kX1_setHeads_107  F hk7 x1 x2 st _ _ _ hw C (lv_sub hl [0, 1, 2] rfl)
    · have hw := hw.2 c_9
      refine lv_iload_n hx hb dX1_setHeads_62 rfl (lv_at hl 1 rfl) ?_
      refine lv_iconst (v := 3) hx hb dX1_setHeads_63 (by decide) ?_
      refine lv_icmp_ne (tgt := 107) hx hb dX1_setHeads_64 (by decide) (fun c_10 => ?_) (fun c_10 => ?_)
      · have hw := hw.2 c_10
        exact kX1_setHeads_107  F hk7 x1 x2 st _ _ _ hw C (lv_sub hl [0, 1, 2] rfl)
      · have hw := hw.1 c_10
        refine lv_aload_n hx hb dX1_setHeads_67 rfl (lv_at hl 0 rfl) ?_
        refine x1_g33 F C dX1_setHeads_68 ?_
        refine lv_iload_n hx hb dX1_setHeads_71 rfl (lv_at hl 3 rfl) ?_
        obtain ⟨h_11, hw⟩ := hw
        refine x1_ld33 F C h_11 dX1_setHeads_72 ?_
        refine lv_if_eq (tgt := 101) hx hb dX1_setHeads_73 (by decide) (fun c_12 => ?_) (fun c_12 => ?_)
        · have hw := hw.1 c_12
          exact kX1_setHeads_101  F hk7 hk54 x1 x2 x3 st _ _ _ hw C hl
        · have hw := hw.2 c_12
          refine lv_aload_n hx hb dX1_setHeads_76 rfl (lv_at hl 0 rfl) ?_
          refine x1_g9 F C dX1_setHeads_77 ?_
          refine lv_iload_n hx hb dX1_setHeads_80 rfl (lv_at hl 3 rfl) ?_
          obtain ⟨h_14, hw⟩ := hw
          refine x1_ld9 F C h_14 dX1_setHeads_81 ?_
          refine lv_aload_n hx hb dX1_setHeads_82 rfl (lv_at hl 0 rfl) ?_
          refine x1_g8 F C dX1_setHeads_83 ?_
          refine lv_iload_n hx hb dX1_setHeads_86 rfl (lv_at hl 2 rfl) ?_
          obtain ⟨h_15, hw⟩ := hw
          refine x1_ld8 F C h_15 dX1_setHeads_87 ?_
          refine lv_icmp_ne (tgt := 101) hx hb dX1_setHeads_88 (by decide) (fun c_16 => ?_) (fun c_16 => ?_)
          · have hw := hw.2 c_16
            exact kX1_setHeads_101  F hk7 hk54 x1 x2 x3 st _ _ _ hw C hl
          · have hw := hw.1 c_16
            refine lv_aload_n hx hb dX1_setHeads_91 rfl (lv_at hl 0 rfl) ?_
            refine lv_aload_n hx hb dX1_setHeads_92 rfl (lv_at hl 0 rfl) ?_
            refine x1_g8 F C dX1_setHeads_93 ?_
            refine lv_iload_n hx hb dX1_setHeads_96 rfl (lv_at hl 3 rfl) ?_
            obtain ⟨h_17, hw⟩ := hw
            refine x1_ld8 F C h_17 dX1_setHeads_97 ?_
            refine x_callV (rest := []) (ci := 5) (q := (RX1, TX1, 55)) F C (ctX1_addHead hE hw) (cwV 1 hts (lw_V q1146 q1148 qs52 q71 q1149) rfl rfl rfl (by decide +kernel) ⟨Nat.le_of_ble_eq_true rfl, Nat.le_of_ble_eq_true rfl⟩) rfl rfl rfl hl.1 rfl (Nat.le_of_ble_eq_true rfl) dX1_setHeads_98 ⟨Nat.zero_le _, Nat.zero_le _⟩ (fun s_18 H locs hw C => ?_)
            exact kX1_setHeads_101  F hk7 hk54 x1 x2 x3 s_18 _ _ _ hw C hl
set_option maxHeartbeats 4000000 in
theorem kX1_setHeads_52  {post : CS → Prop} {k7 : Int32 → Int32 → CS → Prop} (F : Fx p s m args meth c cX1_setHeads 4 RX1 none D d E A) (hk7 : ∀ (x1 : Int32) (x2 : Int32) (st : CS) (H : Heap) (locs : List Loc) (ls : Array Slot), k7 x1 x2 st → Cx D (wM o ad d) A s st H locs → lv_has ls 4 [(0, .ref o), (1, .int x1), (2, .int x2)] → W p l e (headSpec (ws_ yX1_setHeads cX1_setHeads 4 none) rmX1_setHeads).room s m args below meth c H locs 0 0 (QV below D d E (wM o ad d) A args s 0 0 post) (F0 m 7 ls [])) : ∀ (x1 : Int32) (x2 : Int32) (st : CS) (H : Heap) (locs : List Loc) (ls : Array Slot), wX1_setHeads_52  post k7 x1 x2 st → Cx D (wM o ad d) A s st H locs → lv_has ls 4 [(0, .ref o), (1, .int x1), (2, .int x2)] → W p l e (headSpec (ws_ yX1_setHeads cX1_setHeads 4 none) rmX1_setHeads).room s m args below meth c H locs 0 0 (QV below D d E (wM o ad d) A args s 0 0 post) (F0 m 52 ls []) := by
  obtain ⟨hx, hb, hr, hml, hown, hts, hlk, hA, hK, hE⟩ := id F
  intro x1 x2 st H locs ls hw C hl
  unfold wX1_setHeads_52 at hw
  refine lv_iconst (v := 0) hx hb dX1_setHeads_52 (by decide) ?_
  refine lv_istore_n (lv' := [(3, .int 0), (0, .ref o), (1, .int x1), (2, .int x2)]) hx hb dX1_setHeads_53 rfl hl (by decide) rfl (fun ls hl => ?_)
  obtain ⟨fu, hw⟩ := hw
  exact kX1_setHeads_54  F hk7 fu x1 x2 0 st _ _ _ hw C (lv_sub hl [1, 2, 3, 0] rfl)
set_option maxHeartbeats 4000000 in
theorem kX1_setHeads_7  {post : CS → Prop}  (F : Fx p s m args meth c cX1_setHeads 4 RX1 none D d E A) : ∀ (fu : Nat) (x1 : Int32) (x2 : Int32) (st : CS) (H : Heap) (locs : List Loc) (ls : Array Slot), wX1_setHeads_7  post  fu x1 x2 st → Cx D (wM o ad d) A s st H locs → lv_has ls 4 [(0, .ref o), (1, .int x1), (2, .int x2)] → W p l e (headSpec (ws_ yX1_setHeads cX1_setHeads 4 none) rmX1_setHeads).room s m args below meth c H locs 0 0 (QV below D d E (wM o ad d) A args s 0 0 post) (F0 m 7 ls []) := by
  obtain ⟨hx, hb, hr, hml, hown, hts, hlk, hA, hK, hE⟩ := id F
  intro fu
  induction fu with
  | zero =>
    intro x1 x2 st H locs ls hw
    exact hw.elim
  | succ n ih =>
    have hk7 := ih
    intro x1 x2 st H locs ls hw C hl
    unfold wX1_setHeads_7 at hw
    refine lv_iload_n hx hb dX1_setHeads_7 rfl (lv_at hl 2 rfl) ?_
    refine lv_aload_n hx hb dX1_setHeads_8 rfl (lv_at hl 0 rfl) ?_
    refine x1_g6 F C dX1_setHeads_9 ?_
    refine lv_icmp_ge (tgt := 113) hx hb dX1_setHeads_12 (by decide) (fun c_2 => ?_) (fun c_2 => ?_)
    · have hw := hw.1 c_2
      exact x_vret F C hw dX1_setHeads_113
    · have hw := hw.2 c_2
      refine lv_aload_n hx hb dX1_setHeads_15 rfl (lv_at hl 0 rfl) ?_
      refine x1_g33 F C dX1_setHeads_16 ?_
      refine lv_iload_n hx hb dX1_setHeads_19 rfl (lv_at hl 2 rfl) ?_
      obtain ⟨h_3, hw⟩ := hw
      refine x1_ld33 F C h_3 dX1_setHeads_20 ?_
      refine lv_if_eq (tgt := 107) hx hb dX1_setHeads_21 (by decide) (fun c_4 => ?_) (fun c_4 => ?_)
      · have hw := hw.1 c_4
        exact kX1_setHeads_107  F hk7 x1 x2 st _ _ _ hw C hl
      · have hw := hw.2 c_4
        refine lv_aload_n hx hb dX1_setHeads_24 rfl (lv_at hl 0 rfl) ?_
        refine x1_g9 F C dX1_setHeads_25 ?_
        refine lv_iload_n hx hb dX1_setHeads_28 rfl (lv_at hl 2 rfl) ?_
        obtain ⟨h_6, hw⟩ := hw
        refine x1_ld9 F C h_6 dX1_setHeads_29 ?_
        refine lv_aload_n hx hb dX1_setHeads_30 rfl (lv_at hl 0 rfl) ?_
        refine x1_g30 F C dX1_setHeads_31 ?_
        refine lv_icmp_ne (tgt := 107) hx hb dX1_setHeads_34 (by decide) (fun c_7 => ?_) (fun c_7 => ?_)
        · have hw := hw.2 c_7
          exact kX1_setHeads_107  F hk7 x1 x2 st _ _ _ hw C hl
        · have hw := hw.1 c_7
          refine lv_iload_n hx hb dX1_setHeads_37 rfl (lv_at hl 1 rfl) ?_
          refine lv_iconst (v := 2) hx hb dX1_setHeads_38 (by decide) ?_
          refine lv_icmp_ne (tgt := 52) hx hb dX1_setHeads_39 (by decide) (fun c_8 => ?_) (fun c_8 => ?_)
          · have hw := hw.2 c_8
            exact kX1_setHeads_52  F hk7 x1 x2 st _ _ _ hw C hl
          · have hw := hw.1 c_8
            refine lv_aload_n hx hb dX1_setHeads_42 rfl (lv_at hl 0 rfl) ?_
            refine lv_aload_n hx hb dX1_setHeads_43 rfl (lv_at hl 0 rfl) ?_
            refine x1_g8 F C dX1_setHeads_44 ?_
            refine lv_iload_n hx hb dX1_setHeads_47 rfl (lv_at hl 2 rfl) ?_
            obtain ⟨h_20, hw⟩ := hw
            refine x1_ld8 F C h_20 dX1_setHeads_48 ?_
            refine x_callV (rest := []) (ci := 5) (q := (RX1, TX1, 55)) F C (ctX1_addHead hE hw) (cwV 1 hts (lw_V q1146 q1148 qs52 q71 q1149) rfl rfl rfl (by decide +kernel) ⟨Nat.le_of_ble_eq_true rfl, Nat.le_of_ble_eq_true rfl⟩) rfl rfl rfl hl.1 rfl (Nat.le_of_ble_eq_true rfl) dX1_setHeads_49 ⟨Nat.zero_le _, Nat.zero_le _⟩ (fun s_21 H locs hw C => ?_)
            exact kX1_setHeads_52  F hk7 x1 x2 s_21 _ _ _ hw C hl
theorem ctX1_setHeads (hE : Em E)  {post : CS → Prop} {s0 : CS} {p0 : Int32} (hw : wpX1_setHeads  post s0 p0) : CtV l yX1_setHeads (ws_ yX1_setHeads cX1_setHeads 4 none) rmX1_setHeads D d E (wM o ad d) 0 0 [.ref o, .int p0] s0 post := by
  refine CtV.of hE (by decide) rfl (Nat.le_of_ble_eq_true rfl) ?_
  intro p e s m below meth c A ls F C hl
  have hl : lv_has ls 4 [(0, .ref o), (1, .int p0)] := hl
  unfold wpX1_setHeads at hw
  obtain ⟨hx, hb, hr, hml, hown, hts, hlk, hA, hK, -⟩ := id F
  refine lv_aload_n hx hb dX1_setHeads_0 rfl (lv_at hl 0 rfl) ?_
  refine lv_iconst (v := 0) hx hb dX1_setHeads_1 (by decide) ?_
  refine x1_p41 F C dX1_setHeads_2 (fun H locs s_1 es_1 C => ?_)
  have hw := hw s_1 es_1
  refine lv_iconst (v := 0) hx hb dX1_setHeads_5 (by decide) ?_
  refine lv_istore_n (lv' := [(2, .int 0), (0, .ref o), (1, .int p0)]) hx hb dX1_setHeads_6 rfl hl (by decide) rfl (fun ls hl => ?_)
  obtain ⟨fu, hw⟩ := hw
  exact kX1_setHeads_7  F  fu p0 0 s_1 _ _ _ hw C (lv_sub hl [1, 2, 0] rfl)

abbrev rmX1_partAll : Room := { frames := 5, cells := 0, slots := 0, locals := 141 }
def wX1_partAll_316  (post : CS → Prop)   (st : CS) : Prop := (wpX1_comeDown (fun s_16 => (post s_16)) st )
def wX1_partAll_272  (post : CS → Prop)  : Nat → Int64 → Int64 → Int32 → CS → Prop
  | 0 => fun _ _ _ _ => False
  | n + 1 => fun x5 x7 x9 st => (((sI st 41) ≤ x9 → (wX1_partAll_316  post  st)) ∧ (¬ (sI st 41) ≤ x9 → (((sI st 43) ≤ 1 → (wX1_partAll_316  post  st)) ∧ (¬ (sI st 43) ≤ 1 → (vp_in x9 64 ∧ (wpX1_give (fun s_20 => (∀ x9_22 : Int32, x9_22 = x9 + 1 → (wX1_partAll_272  post  n x5 x7 x9_22 s_20))) st (sA st 42 x9.toNatClampNeg) x5 (x7 * ((sI st 41).toInt64))))))))
def wX1_partAll_269  (post : CS → Prop)  (x5 : Int64) (x7 : Int64) (st : CS) : Prop := (∃ fu : Nat, wX1_partAll_272  post  fu x5 x7 0 st)
def wX1_partAll_245  (post : CS → Prop)  (x1 : Int32) (x5 : Int64) (x7 : Int64) (st : CS) : Prop := (((sI st 43) = 1 → (vp_in x1 24 ∧ ∀ s_24 : CS, s_24 = uM st 39 x1.toNatClampNeg x5 → (vp_in x1 24 ∧ ∀ s_26 : CS, s_26 = uM s_24 40 x1.toNatClampNeg x7 → (wX1_partAll_269  post  x5 x7 s_26)))) ∧ (¬ (sI st 43) = 1 → (wX1_partAll_269  post  x5 x7 st)))
def wX1_partAll_168  (post : CS → Prop)  (y0 : Int32) (st : CS) : Prop := (wpX1_gets (fun s_37 => (post s_37)) st y0 1 1)
def wX1_partAll_142  (post : CS → Prop)  (x1 : Int32) (st : CS) : Prop := (wpX1_coupled (fun r_11 s_10 => (((sI s_10 43) = 0 → ((0 ≤ r_11 → (wX1_partAll_168  post  r_11 s_10)) ∧ (¬ 0 ≤ r_11 → (wX1_partAll_168  post  24 s_10)))) ∧ (¬ (sI s_10 43) = 0 → ((r_11 < 0 → (wX1_partAll_245  post  x1 1 1 s_10)) ∧ (¬ r_11 < 0 → (vp_in (sI s_10 32) 16 ∧ (vp_in (sI s_10 32) 16 ∧ (wpX1_gets (fun s_29 => (vp_in (sI s_29 32) 16 ∧ (vp_in (sI s_29 32) 16 ∧ (∀ x5_33 : Int64, x5_33 = ((sA s_29 23 (sI s_29 32).toNatClampNeg) - (sA s_29 22 (sI s_29 32).toNatClampNeg)).toInt64 → (vp_in (sI s_29 32) 16 ∧ (∀ x7_35 : Int64, x7_35 = (sA s_29 23 (sI s_29 32).toNatClampNeg).toInt64 → (wX1_partAll_245  post  x1 x5_33 x7_35 s_29))))))) s_10 r_11 ((sA s_10 22 (sI s_10 32).toNatClampNeg).toInt64) ((sA s_10 23 (sI s_10 32).toNatClampNeg).toInt64))))))))) st )
def wX1_partAll_133  (post : CS → Prop) (k92 : Int32 → Int32 → CS → Prop) (x1 : Int32) (x4 : Int32) (y0 : Int32) (st : CS) : Prop := (∀ s_43 : CS, s_43 = uI st 43 y0 → (∀ x4_44 : Int32, x4_44 = x4 + 1 → (k92 x1 x4_44 s_43)))
def wX1_partAll_92  (post : CS → Prop)  : Nat → Int32 → Int32 → CS → Prop
  | 0 => fun _ _ _ => False
  | n + 1 => fun x1 x4 st => (vp_in (sI st 32) 16 ∧ (((sA st 25 (sI st 32).toNatClampNeg) < x4 → (wX1_partAll_142  post  x1 st)) ∧ (¬ (sA st 25 (sI st 32).toNatClampNeg) < x4 → (((sI st 43) = 0 → (wpX1_setHeads (fun s_40 => (((sI s_40 41) ≤ 0 → (wX1_partAll_133  post (wX1_partAll_92  post  n) x1 x4 0 s_40)) ∧ (¬ (sI s_40 41) ≤ 0 → (wX1_partAll_133  post (wX1_partAll_92  post  n) x1 x4 x4 s_40)))) st x4)) ∧ (¬ (sI st 43) = 0 → (wX1_partAll_142  post  x1 st))))))
def wX1_partAll_86  (post : CS → Prop)  (x1 : Int32) (y0 : Int32) (st : CS) : Prop := (∀ s_7 : CS, s_7 = uI st 43 y0 → (∃ fu : Nat, wX1_partAll_92  post  fu x1 2 s_7))
def wX1_partAll_42  (post : CS → Prop)  : Nat → Int32 → Int32 → CS → Prop
  | 0 => fun _ _ _ => False
  | n + 1 => fun x1 x4 st => ((24 ≤ x4 → (vp_in x1 24 ∧ (((sA st 35 x1.toNatClampNeg) = 0 → (wX1_partAll_86  post  x1 0 st)) ∧ (¬ (sA st 35 x1.toNatClampNeg) = 0 → (wX1_partAll_86  post  x1 1 st))))) ∧ (¬ 24 ≤ x4 → (vp_in x4 24 ∧ ∀ s_46 : CS, s_46 = uM st 39 x4.toNatClampNeg 0 → (vp_in x4 24 ∧ ∀ s_48 : CS, s_48 = uM s_46 40 x4.toNatClampNeg 1 → (∀ x4_49 : Int32, x4_49 = x4 + 1 → (wX1_partAll_42  post  n x1 x4_49 s_48))))))
def wX1_partAll_10  (post : CS → Prop)  : Nat → Int32 → Int32 → CS → Prop
  | 0 => fun _ _ _ => False
  | n + 1 => fun x1 x4 st => ((24 < x4 → (∃ fu : Nat, wX1_partAll_42  post  fu x1 0 st)) ∧ (¬ 24 < x4 → (vp_in x4 25 ∧ ∀ s_51 : CS, s_51 = uM st 26 x4.toNatClampNeg 0 → (vp_in x4 25 ∧ ∀ s_53 : CS, s_53 = uM s_51 27 x4.toNatClampNeg 1 → (∀ x4_54 : Int32, x4_54 = x4 + 1 → (wX1_partAll_10  post  n x1 x4_54 s_53))))))
def wpX1_partAll  (post : CS → Prop) (s0 : CS) (p0 : Int32) (p1 : Int32) (p2 : Int32) : Prop := (wpX1_begin (fun s_1 => (∃ fu : Nat, wX1_partAll_10  post  fu p0 0 s_1)) s0 p0 p1 p2)
set_option maxHeartbeats 4000000 in
theorem kX1_partAll_316  {post : CS → Prop}  (F : Fx p s m args meth c cX1_partAll 10 RX1 none D d E A) : ∀  (st : CS) (H : Heap) (locs : List Loc) (ls : Array Slot), wX1_partAll_316  post  st → Cx D (wM o ad d) A s st H locs → lv_has ls 10 [(0, .ref o)] → W p l e (headSpec (ws_ yX1_partAll cX1_partAll 10 none) rmX1_partAll).room s m args below meth c H locs 0 0 (QV below D d E (wM o ad d) A args s 0 0 post) (F0 m 316 ls []) := by
  obtain ⟨hx, hb, hr, hml, hown, hts, hlk, hA, hK, hE⟩ := id F
  intro st H locs ls hw C hl
  unfold wX1_partAll_316 at hw
  refine lv_aload_n hx hb dX1_partAll_316 rfl (lv_at hl 0 rfl) ?_
  refine x_callV (rest := []) (ci := 5) (q := (RX1, TX1, 55)) F C (ctX1_comeDown hE hw) (cwV 0 hts (lw_V q1173 q1175 qs58 q71 q1176) rfl rfl rfl (by decide +kernel) ⟨Nat.le_of_ble_eq_true rfl, Nat.le_of_ble_eq_true rfl⟩) rfl rfl rfl hl.1 rfl (Nat.le_of_ble_eq_true rfl) dX1_partAll_317 ⟨Nat.zero_le _, Nat.zero_le _⟩ (fun s_16 H locs hw C => ?_)
  exact x_vret F C hw dX1_partAll_320
set_option maxHeartbeats 4000000 in
theorem kX1_partAll_272  {post : CS → Prop}  (F : Fx p s m args meth c cX1_partAll 10 RX1 none D d E A) : ∀ (fu : Nat) (x5 : Int64) (x7 : Int64) (x9 : Int32) (st : CS) (H : Heap) (locs : List Loc) (ls : Array Slot), wX1_partAll_272  post  fu x5 x7 x9 st → Cx D (wM o ad d) A s st H locs → lv_has ls 10 [(0, .ref o), (5, .long x5), (7, .long x7), (9, .int x9)] → W p l e (headSpec (ws_ yX1_partAll cX1_partAll 10 none) rmX1_partAll).room s m args below meth c H locs 0 0 (QV below D d E (wM o ad d) A args s 0 0 post) (F0 m 272 ls []) := by
  obtain ⟨hx, hb, hr, hml, hown, hts, hlk, hA, hK, hE⟩ := id F
  intro fu
  induction fu with
  | zero =>
    intro x5 x7 x9 st H locs ls hw
    exact hw.elim
  | succ n ih =>
    have hk272 := ih
    intro x5 x7 x9 st H locs ls hw C hl
    unfold wX1_partAll_272 at hw
    refine lv_iload hx hb dX1_partAll_272 (lv_at hl 3 rfl) ?_
    refine lv_aload_n hx hb dX1_partAll_274 rfl (lv_at hl 0 rfl) ?_
    refine x1_g41 F C dX1_partAll_275 ?_
    refine lv_icmp_ge (tgt := 316) hx hb dX1_partAll_278 (by decide) (fun c_15 => ?_) (fun c_15 => ?_)
    · have hw := hw.1 c_15
      exact kX1_partAll_316  F  st _ _ _ hw C (lv_sub hl [0] rfl)
    · have hw := hw.2 c_15
      refine lv_aload_n hx hb dX1_partAll_281 rfl (lv_at hl 0 rfl) ?_
      refine x1_g43 F C dX1_partAll_282 ?_
      refine lv_iconst (v := 1) hx hb dX1_partAll_285 (by decide) ?_
      refine lv_icmp_le (tgt := 316) hx hb dX1_partAll_286 (by decide) (fun c_18 => ?_) (fun c_18 => ?_)
      · have hw := hw.1 c_18
        exact kX1_partAll_316  F  st _ _ _ hw C (lv_sub hl [0] rfl)
      · have hw := hw.2 c_18
        refine lv_aload_n hx hb dX1_partAll_289 rfl (lv_at hl 0 rfl) ?_
        refine lv_aload_n hx hb dX1_partAll_290 rfl (lv_at hl 0 rfl) ?_
        refine x1_g42 F C dX1_partAll_291 ?_
        refine lv_iload hx hb dX1_partAll_294 (lv_at hl 3 rfl) ?_
        obtain ⟨h_19, hw⟩ := hw
        refine x1_ld42 F C h_19 dX1_partAll_296 ?_
        refine lv_lload hx hb dX1_partAll_297 (lv_at hl 1 rfl) ?_
        refine lv_lload hx hb dX1_partAll_299 (lv_at hl 2 rfl) ?_
        refine lv_aload_n hx hb dX1_partAll_301 rfl (lv_at hl 0 rfl) ?_
        refine x1_g41 F C dX1_partAll_302 ?_
        refine lv_i2l (v := (sI st 41).toInt64) hx hb dX1_partAll_305 rfl ?_
        refine lv_lmul hx hb dX1_partAll_306 ?_
        refine x_callV (rest := []) (ci := 5) (q := (RX1, TX1, 55)) F C (ctX1_give hE hw) (cwV 3 hts (lw_V q1169 q1171 qs57 q71 q1172) rfl rfl rfl (by decide +kernel) ⟨Nat.le_of_ble_eq_true rfl, Nat.le_of_ble_eq_true rfl⟩) rfl rfl rfl hl.1 rfl (Nat.le_of_ble_eq_true rfl) dX1_partAll_307 ⟨Nat.zero_le _, Nat.zero_le _⟩ (fun s_20 H locs hw C => ?_)
        obtain ⟨x9_22, ex9_22⟩ : ∃ y : Int32, y = x9 + 1 := ⟨_, rfl⟩
        have hw := hw x9_22 ex9_22
        refine lv_iinc (v := x9_22) (lv' := [(9, .int x9_22), (0, .ref o), (5, .long x5), (7, .long x7)]) hx hb dX1_partAll_310 hl (k := 3) rfl (by rw [ex9_22]; rfl) (by decide) rfl (fun ls hl => ?_)
        refine lv_goto (tgt := 272) hx hb dX1_partAll_313 (by decide) ?_
        exact hk272 x5 x7 x9_22 s_20 _ _ _ hw C (lv_sub hl [1, 2, 3, 0] rfl)
set_option maxHeartbeats 4000000 in
theorem kX1_partAll_269  {post : CS → Prop}  (F : Fx p s m args meth c cX1_partAll 10 RX1 none D d E A) : ∀ (x5 : Int64) (x7 : Int64) (st : CS) (H : Heap) (locs : List Loc) (ls : Array Slot), wX1_partAll_269  post  x5 x7 st → Cx D (wM o ad d) A s st H locs → lv_has ls 10 [(0, .ref o), (5, .long x5), (7, .long x7)] → W p l e (headSpec (ws_ yX1_partAll cX1_partAll 10 none) rmX1_partAll).room s m args below meth c H locs 0 0 (QV below D d E (wM o ad d) A args s 0 0 post) (F0 m 269 ls []) := by
  obtain ⟨hx, hb, hr, hml, hown, hts, hlk, hA, hK, hE⟩ := id F
  intro x5 x7 st H locs ls hw C hl
  unfold wX1_partAll_269 at hw
  refine lv_iconst (v := 0) hx hb dX1_partAll_269 (by decide) ?_
  refine lv_istore (lv' := [(9, .int 0), (0, .ref o), (5, .long x5), (7, .long x7)]) hx hb dX1_partAll_270 hl (by decide) rfl (fun ls hl => ?_)
  obtain ⟨fu, hw⟩ := hw
  exact kX1_partAll_272  F  fu x5 x7 0 st _ _ _ hw C (lv_sub hl [1, 2, 3, 0] rfl)
set_option maxHeartbeats 4000000 in
theorem kX1_partAll_245  {post : CS → Prop}  (F : Fx p s m args meth c cX1_partAll 10 RX1 none D d E A) : ∀ (x1 : Int32) (x5 : Int64) (x7 : Int64) (st : CS) (H : Heap) (locs : List Loc) (ls : Array Slot), wX1_partAll_245  post  x1 x5 x7 st → Cx D (wM o ad d) A s st H locs → lv_has ls 10 [(0, .ref o), (1, .int x1), (5, .long x5), (7, .long x7)] → W p l e (headSpec (ws_ yX1_partAll cX1_partAll 10 none) rmX1_partAll).room s m args below meth c H locs 0 0 (QV below D d E (wM o ad d) A args s 0 0 post) (F0 m 245 ls []) := by
  obtain ⟨hx, hb, hr, hml, hown, hts, hlk, hA, hK, hE⟩ := id F
  intro x1 x5 x7 st H locs ls hw C hl
  unfold wX1_partAll_245 at hw
  refine lv_aload_n hx hb dX1_partAll_245 rfl (lv_at hl 0 rfl) ?_
  refine x1_g43 F C dX1_partAll_246 ?_
  refine lv_iconst (v := 1) hx hb dX1_partAll_249 (by decide) ?_
  refine lv_icmp_ne (tgt := 269) hx hb dX1_partAll_250 (by decide) (fun c_14 => ?_) (fun c_14 => ?_)
  · have hw := hw.2 c_14
    exact kX1_partAll_269  F  x5 x7 st _ _ _ hw C (lv_sub hl [0, 2, 3] rfl)
  · have hw := hw.1 c_14
    refine lv_aload_n hx hb dX1_partAll_253 rfl (lv_at hl 0 rfl) ?_
    refine x1_g39 F C dX1_partAll_254 ?_
    refine lv_iload_n hx hb dX1_partAll_257 rfl (lv_at hl 1 rfl) ?_
    refine lv_lload hx hb dX1_partAll_258 (lv_at hl 2 rfl) ?_
    obtain ⟨h_23, hw⟩ := hw
    refine x1_st39 F C h_23 dX1_partAll_260 (fun H locs s_24 es_24 C => ?_)
    have hw := hw s_24 es_24
    refine lv_aload_n hx hb dX1_partAll_261 rfl (lv_at hl 0 rfl) ?_
    refine x1_g40 F C dX1_partAll_262 ?_
    refine lv_iload_n hx hb dX1_partAll_265 rfl (lv_at hl 1 rfl) ?_
    refine lv_lload hx hb dX1_partAll_266 (lv_at hl 3 rfl) ?_
    obtain ⟨h_25, hw⟩ := hw
    refine x1_st40 F C h_25 dX1_partAll_268 (fun H locs s_26 es_26 C => ?_)
    have hw := hw s_26 es_26
    exact kX1_partAll_269  F  x5 x7 s_26 _ _ _ hw C (lv_sub hl [0, 2, 3] rfl)
set_option maxHeartbeats 4000000 in
theorem kX1_partAll_168  {post : CS → Prop}  (F : Fx p s m args meth c cX1_partAll 10 RX1 none D d E A) : ∀ (y0 : Int32) (st : CS) (H : Heap) (locs : List Loc) (ls : Array Slot), wX1_partAll_168  post  y0 st → Cx D (wM o ad d) A s st H locs → lv_has ls 10 [] → W p l e (headSpec (ws_ yX1_partAll cX1_partAll 10 none) rmX1_partAll).room s m args below meth c H locs 0 0 (QV below D d E (wM o ad d) A args s 0 0 post) (F0 m 168 ls [.int y0, .ref o]) := by
  obtain ⟨hx, hb, hr, hml, hown, hts, hlk, hA, hK, hE⟩ := id F
  intro y0 st H locs ls hw C hl
  unfold wX1_partAll_168 at hw
  refine lv_lconst (v := 1) hx hb dX1_partAll_168 (by decide) ?_
  refine lv_lconst (v := 1) hx hb dX1_partAll_169 (by decide) ?_
  refine x_callV (rest := []) (ci := 5) (q := (RX1, TX1, 55)) F C (ctX1_gets hE hw) (cwV 3 hts (lw_V q1158 q1160 qs55 q71 q1161) rfl rfl rfl (by decide +kernel) ⟨Nat.le_of_ble_eq_true rfl, Nat.le_of_ble_eq_true rfl⟩) rfl rfl rfl hl.1 rfl (Nat.le_of_ble_eq_true rfl) dX1_partAll_170 ⟨Nat.zero_le _, Nat.zero_le _⟩ (fun s_37 H locs hw C => ?_)
  exact x_vret F C hw dX1_partAll_173
set_option maxHeartbeats 4000000 in
theorem kX1_partAll_142  {post : CS → Prop}  (F : Fx p s m args meth c cX1_partAll 10 RX1 none D d E A) : ∀ (x1 : Int32) (st : CS) (H : Heap) (locs : List Loc) (ls : Array Slot), wX1_partAll_142  post  x1 st → Cx D (wM o ad d) A s st H locs → lv_has ls 10 [(0, .ref o), (1, .int x1)] → W p l e (headSpec (ws_ yX1_partAll cX1_partAll 10 none) rmX1_partAll).room s m args below meth c H locs 0 0 (QV below D d E (wM o ad d) A args s 0 0 post) (F0 m 142 ls []) := by
  obtain ⟨hx, hb, hr, hml, hown, hts, hlk, hA, hK, hE⟩ := id F
  intro x1 st H locs ls hw C hl
  unfold wX1_partAll_142 at hw
  refine lv_aload_n hx hb dX1_partAll_142 rfl (lv_at hl 0 rfl) ?_
  refine x_callI (rest := []) (ci := 5) (q := (RX1, TX1, 55)) F C (ctX1_coupled hE hw) (cwV 0 hts (lw_V q1154 q1156 qs54 q71 q1157) rfl rfl rfl (by decide +kernel) ⟨Nat.le_of_ble_eq_true rfl, Nat.le_of_ble_eq_true rfl⟩) rfl rfl rfl hl.1 rfl (Nat.le_of_ble_eq_true rfl) dX1_partAll_143 ⟨Nat.zero_le _, Nat.zero_le _⟩ (fun r_11 s_10 H locs hw C => ?_)
  refine lv_istore (lv' := [(4, .int r_11), (0, .ref o), (1, .int x1)]) hx hb dX1_partAll_146 hl (by decide) rfl (fun ls hl => ?_)
  refine lv_aload_n hx hb dX1_partAll_148 rfl (lv_at hl 1 rfl) ?_
  refine x1_g43 F C dX1_partAll_149 ?_
  refine lv_if_ne (tgt := 174) hx hb dX1_partAll_152 (by decide) (fun c_12 => ?_) (fun c_12 => ?_)
  · have hw := hw.2 c_12
    refine lv_lconst (v := 1) hx hb dX1_partAll_174 (by decide) ?_
    refine lv_lstore (lv' := [(5, .long 1), (4, .int r_11), (0, .ref o), (1, .int x1)]) hx hb dX1_partAll_175 hl (by decide) rfl (fun ls hl => ?_)
    refine lv_lconst (v := 1) hx hb dX1_partAll_177 (by decide) ?_
    refine lv_lstore (lv' := [(7, .long 1), (5, .long 1), (4, .int r_11), (0, .ref o), (1, .int x1)]) hx hb dX1_partAll_178 hl (by decide) rfl (fun ls hl => ?_)
    refine lv_iload hx hb dX1_partAll_180 (lv_at hl 2 rfl) ?_
    refine lv_if_lt (tgt := 245) hx hb dX1_partAll_182 (by decide) (fun c_13 => ?_) (fun c_13 => ?_)
    · have hw := hw.1 c_13
      exact kX1_partAll_245  F  x1 1 1 s_10 _ _ _ hw C (lv_sub hl [3, 4, 1, 0] rfl)
    · have hw := hw.2 c_13
      refine lv_aload_n hx hb dX1_partAll_185 rfl (lv_at hl 3 rfl) ?_
      refine lv_iload hx hb dX1_partAll_186 (lv_at hl 2 rfl) ?_
      refine lv_aload_n hx hb dX1_partAll_188 rfl (lv_at hl 3 rfl) ?_
      refine x1_g22 F C dX1_partAll_189 ?_
      refine lv_aload_n hx hb dX1_partAll_192 rfl (lv_at hl 3 rfl) ?_
      refine x1_g32 F C dX1_partAll_193 ?_
      obtain ⟨h_27, hw⟩ := hw
      refine x1_ld22 F C h_27 dX1_partAll_196 ?_
      refine lv_i2l (v := (sA s_10 22 (sI s_10 32).toNatClampNeg).toInt64) hx hb dX1_partAll_197 rfl ?_
      refine lv_aload_n hx hb dX1_partAll_198 rfl (lv_at hl 3 rfl) ?_
      refine x1_g23 F C dX1_partAll_199 ?_
      refine lv_aload_n hx hb dX1_partAll_202 rfl (lv_at hl 3 rfl) ?_
      refine x1_g32 F C dX1_partAll_203 ?_
      obtain ⟨h_28, hw⟩ := hw
      refine x1_ld23 F C h_28 dX1_partAll_206 ?_
      refine lv_i2l (v := (sA s_10 23 (sI s_10 32).toNatClampNeg).toInt64) hx hb dX1_partAll_207 rfl ?_
      refine x_callV (rest := []) (ci := 5) (q := (RX1, TX1, 55)) F C (ctX1_gets hE hw) (cwV 3 hts (lw_V q1158 q1160 qs55 q71 q1161) rfl rfl rfl (by decide +kernel) ⟨Nat.le_of_ble_eq_true rfl, Nat.le_of_ble_eq_true rfl⟩) rfl rfl rfl hl.1 rfl (Nat.le_of_ble_eq_true rfl) dX1_partAll_208 ⟨Nat.zero_le _, Nat.zero_le _⟩ (fun s_29 H locs hw C => ?_)
      refine lv_aload_n hx hb dX1_partAll_211 rfl (lv_at hl 3 rfl) ?_
      refine x1_g23 F C dX1_partAll_212 ?_
      refine lv_aload_n hx hb dX1_partAll_215 rfl (lv_at hl 3 rfl) ?_
      refine x1_g32 F C dX1_partAll_216 ?_
      obtain ⟨h_31, hw⟩ := hw
      refine x1_ld23 F C h_31 dX1_partAll_219 ?_
      refine lv_aload_n hx hb dX1_partAll_220 rfl (lv_at hl 3 rfl) ?_
      refine x1_g22 F C dX1_partAll_221 ?_
      refine lv_aload_n hx hb dX1_partAll_224 rfl (lv_at hl 3 rfl) ?_
      refine x1_g32 F C dX1_partAll_225 ?_
      obtain ⟨h_32, hw⟩ := hw
      refine x1_ld22 F C h_32 dX1_partAll_228 ?_
      refine lv_isub hx hb dX1_partAll_229 ?_
      refine lv_i2l (v := ((sA s_29 23 (sI s_29 32).toNatClampNeg) - (sA s_29 22 (sI s_29 32).toNatClampNeg)).toInt64) hx hb dX1_partAll_230 rfl ?_
      refine lv_topl (fun x5_33 ex5_33 => ?_)
      have hw := hw x5_33 ex5_33
      refine lv_lstore (lv' := [(5, .long x5_33), (7, .long 1), (4, .int r_11), (0, .ref o), (1, .int x1)]) hx hb dX1_partAll_231 hl (by decide) rfl (fun ls hl => ?_)
      refine lv_aload_n hx hb dX1_partAll_233 rfl (lv_at hl 3 rfl) ?_
      refine x1_g23 F C dX1_partAll_234 ?_
      refine lv_aload_n hx hb dX1_partAll_237 rfl (lv_at hl 3 rfl) ?_
      refine x1_g32 F C dX1_partAll_238 ?_
      obtain ⟨h_34, hw⟩ := hw
      refine x1_ld23 F C h_34 dX1_partAll_241 ?_
      refine lv_i2l (v := (sA s_29 23 (sI s_29 32).toNatClampNeg).toInt64) hx hb dX1_partAll_242 rfl ?_
      refine lv_topl (fun x7_35 ex7_35 => ?_)
      have hw := hw x7_35 ex7_35
      refine lv_lstore (lv' := [(7, .long x7_35), (5, .long x5_33), (4, .int r_11), (0, .ref o), (1, .int x1)]) hx hb dX1_partAll_243 hl (by decide) rfl (fun ls hl => ?_)
      exact kX1_partAll_245  F  x1 x5_33 x7_35 s_29 _ _ _ hw C (lv_sub hl [3, 4, 1, 0] rfl)
  · have hw := hw.1 c_12
    refine lv_aload_n hx hb dX1_partAll_155 rfl (lv_at hl 1 rfl) ?_
    refine lv_iload hx hb dX1_partAll_156 (lv_at hl 0 rfl) ?_
    refine lv_if_ge (tgt := 166) hx hb dX1_partAll_158 (by decide) (fun c_36 => ?_) (fun c_36 => ?_)
    · have hw := hw.1 c_36
      refine lv_iload hx hb dX1_partAll_166 (lv_at hl 0 rfl) ?_
      exact kX1_partAll_168  F  r_11 s_10 _ _ _ hw C (lv_sub hl [] rfl)
    · have hw := hw.2 c_36
      refine lv_bipush (v := 24) hx hb dX1_partAll_161 (by decide) ?_
      refine lv_goto (tgt := 168) hx hb dX1_partAll_163 (by decide) ?_
      exact kX1_partAll_168  F  24 s_10 _ _ _ hw C (lv_sub hl [] rfl)
set_option maxHeartbeats 4000000 in
theorem kX1_partAll_133  {post : CS → Prop} {k92 : Int32 → Int32 → CS → Prop} (F : Fx p s m args meth c cX1_partAll 10 RX1 none D d E A) (hk92 : ∀ (x1 : Int32) (x4 : Int32) (st : CS) (H : Heap) (locs : List Loc) (ls : Array Slot), k92 x1 x4 st → Cx D (wM o ad d) A s st H locs → lv_has ls 10 [(0, .ref o), (1, .int x1), (4, .int x4)] → W p l e (headSpec (ws_ yX1_partAll cX1_partAll 10 none) rmX1_partAll).room s m args below meth c H locs 0 0 (QV below D d E (wM o ad d) A args s 0 0 post) (F0 m 92 ls [])) : ∀ (x1 : Int32) (x4 : Int32) (y0 : Int32) (st : CS) (H : Heap) (locs : List Loc) (ls : Array Slot), wX1_partAll_133  post k92 x1 x4 y0 st → Cx D (wM o ad d) A s st H locs → lv_has ls 10 [(0, .ref o), (1, .int x1), (4, .int x4)] → W p l e (headSpec (ws_ yX1_partAll cX1_partAll 10 none) rmX1_partAll).room s m args below meth c H locs 0 0 (QV below D d E (wM o ad d) A args s 0 0 post) (F0 m 133 ls [.int y0, .ref o]) := by
  obtain ⟨hx, hb, hr, hml, hown, hts, hlk, hA, hK, hE⟩ := id F
  intro x1 x4 y0 st H locs ls hw C hl
  unfold wX1_partAll_133 at hw
  refine x1_p43 F C dX1_partAll_133 (fun H locs s_43 es_43 C => ?_)
  have hw := hw s_43 es_43
  obtain ⟨x4_44, ex4_44⟩ : ∃ y : Int32, y = x4 + 1 := ⟨_, rfl⟩
  have hw := hw x4_44 ex4_44
  refine lv_iinc (v := x4_44) (lv' := [(4, .int x4_44), (0, .ref o), (1, .int x1)]) hx hb dX1_partAll_136 hl (k := 2) rfl (by rw [ex4_44]; rfl) (by decide) rfl (fun ls hl => ?_)
  refine lv_goto (tgt := 92) hx hb dX1_partAll_139 (by decide) ?_
  exact hk92 x1 x4_44 s_43 _ _ _ hw C (lv_sub hl [1, 2, 0] rfl)
set_option maxHeartbeats 4000000 in
theorem kX1_partAll_92  {post : CS → Prop}  (F : Fx p s m args meth c cX1_partAll 10 RX1 none D d E A) : ∀ (fu : Nat) (x1 : Int32) (x4 : Int32) (st : CS) (H : Heap) (locs : List Loc) (ls : Array Slot), wX1_partAll_92  post  fu x1 x4 st → Cx D (wM o ad d) A s st H locs → lv_has ls 10 [(0, .ref o), (1, .int x1), (4, .int x4)] → W p l e (headSpec (ws_ yX1_partAll cX1_partAll 10 none) rmX1_partAll).room s m args below meth c H locs 0 0 (QV below D d E (wM o ad d) A args s 0 0 post) (F0 m 92 ls []) := by
  obtain ⟨hx, hb, hr, hml, hown, hts, hlk, hA, hK, hE⟩ := id F
  intro fu
  induction fu with
  | zero =>
    intro x1 x4 st H locs ls hw
    exact hw.elim
  | succ n ih =>
    have hk92 := ih
    intro x1 x4 st H locs ls hw C hl
    unfold wX1_partAll_92 at hw
    refine lv_iload hx hb dX1_partAll_92 (lv_at hl 2 rfl) ?_
    refine lv_aload_n hx hb dX1_partAll_94 rfl (lv_at hl 0 rfl) ?_
    refine x1_g25 F C dX1_partAll_95 ?_
    refine lv_aload_n hx hb dX1_partAll_98 rfl (lv_at hl 0 rfl) ?_
    refine x1_g32 F C dX1_partAll_99 ?_
    obtain ⟨h_8, hw⟩ := hw
    refine x1_ld25 F C h_8 dX1_partAll_102 ?_
    refine lv_icmp_gt (tgt := 142) hx hb dX1_partAll_103 (by decide) (fun c_9 => ?_) (fun c_9 => ?_)
    · have hw := hw.1 c_9
      exact kX1_partAll_142  F  x1 st _ _ _ hw C (lv_sub hl [0, 1] rfl)
    · have hw := hw.2 c_9
      refine lv_aload_n hx hb dX1_partAll_106 rfl (lv_at hl 0 rfl) ?_
      refine x1_g43 F C dX1_partAll_107 ?_
      refine lv_if_ne (tgt := 142) hx hb dX1_partAll_110 (by decide) (fun c_39 => ?_) (fun c_39 => ?_)
      · have hw := hw.2 c_39
        exact kX1_partAll_142  F  x1 st _ _ _ hw C (lv_sub hl [0, 1] rfl)
      · have hw := hw.1 c_39
        refine lv_aload_n hx hb dX1_partAll_113 rfl (lv_at hl 0 rfl) ?_
        refine lv_iload hx hb dX1_partAll_114 (lv_at hl 2 rfl) ?_
        refine x_callV (rest := []) (ci := 5) (q := (RX1, TX1, 55)) F C (ctX1_setHeads hE hw) (cwV 1 hts (lw_V q1142 q1144 qs51 q71 q1145) rfl rfl rfl (by decide +kernel) ⟨Nat.le_of_ble_eq_true rfl, Nat.le_of_ble_eq_true rfl⟩) rfl rfl rfl hl.1 rfl (Nat.le_of_ble_eq_true rfl) dX1_partAll_116 ⟨Nat.zero_le _, Nat.zero_le _⟩ (fun s_40 H locs hw C => ?_)
        refine lv_aload_n hx hb dX1_partAll_119 rfl (lv_at hl 0 rfl) ?_
        refine lv_aload_n hx hb dX1_partAll_120 rfl (lv_at hl 0 rfl) ?_
        refine x1_g41 F C dX1_partAll_121 ?_
        refine lv_if_le (tgt := 132) hx hb dX1_partAll_124 (by decide) (fun c_42 => ?_) (fun c_42 => ?_)
        · have hw := hw.1 c_42
          refine lv_iconst (v := 0) hx hb dX1_partAll_132 (by decide) ?_
          exact kX1_partAll_133  F hk92 x1 x4 0 s_40 _ _ _ hw C hl
        · have hw := hw.2 c_42
          refine lv_iload hx hb dX1_partAll_127 (lv_at hl 2 rfl) ?_
          refine lv_goto (tgt := 133) hx hb dX1_partAll_129 (by decide) ?_
          exact kX1_partAll_133  F hk92 x1 x4 x4 s_40 _ _ _ hw C hl
set_option maxHeartbeats 4000000 in
theorem kX1_partAll_86  {post : CS → Prop}  (F : Fx p s m args meth c cX1_partAll 10 RX1 none D d E A) : ∀ (x1 : Int32) (y0 : Int32) (st : CS) (H : Heap) (locs : List Loc) (ls : Array Slot), wX1_partAll_86  post  x1 y0 st → Cx D (wM o ad d) A s st H locs → lv_has ls 10 [(0, .ref o), (1, .int x1)] → W p l e (headSpec (ws_ yX1_partAll cX1_partAll 10 none) rmX1_partAll).room s m args below meth c H locs 0 0 (QV below D d E (wM o ad d) A args s 0 0 post) (F0 m 86 ls [.int y0, .ref o]) := by
  obtain ⟨hx, hb, hr, hml, hown, hts, hlk, hA, hK, hE⟩ := id F
  intro x1 y0 st H locs ls hw C hl
  unfold wX1_partAll_86 at hw
  refine x1_p43 F C dX1_partAll_86 (fun H locs s_7 es_7 C => ?_)
  have hw := hw s_7 es_7
  refine lv_iconst (v := 2) hx hb dX1_partAll_89 (by decide) ?_
  refine lv_istore (lv' := [(4, .int 2), (0, .ref o), (1, .int x1)]) hx hb dX1_partAll_90 hl (by decide) rfl (fun ls hl => ?_)
  obtain ⟨fu, hw⟩ := hw
  exact kX1_partAll_92  F  fu x1 2 s_7 _ _ _ hw C (lv_sub hl [1, 2, 0] rfl)
set_option maxHeartbeats 4000000 in
theorem kX1_partAll_42  {post : CS → Prop}  (F : Fx p s m args meth c cX1_partAll 10 RX1 none D d E A) : ∀ (fu : Nat) (x1 : Int32) (x4 : Int32) (st : CS) (H : Heap) (locs : List Loc) (ls : Array Slot), wX1_partAll_42  post  fu x1 x4 st → Cx D (wM o ad d) A s st H locs → lv_has ls 10 [(0, .ref o), (1, .int x1), (4, .int x4)] → W p l e (headSpec (ws_ yX1_partAll cX1_partAll 10 none) rmX1_partAll).room s m args below meth c H locs 0 0 (QV below D d E (wM o ad d) A args s 0 0 post) (F0 m 42 ls []) := by
  obtain ⟨hx, hb, hr, hml, hown, hts, hlk, hA, hK, hE⟩ := id F
  intro fu
  induction fu with
  | zero =>
    intro x1 x4 st H locs ls hw
    exact hw.elim
  | succ n ih =>
    have hk42 := ih
    intro x1 x4 st H locs ls hw C hl
    unfold wX1_partAll_42 at hw
    refine lv_iload hx hb dX1_partAll_42 (lv_at hl 2 rfl) ?_
    refine lv_bipush (v := 24) hx hb dX1_partAll_44 (by decide) ?_
    refine lv_icmp_ge (tgt := 71) hx hb dX1_partAll_46 (by decide) (fun c_4 => ?_) (fun c_4 => ?_)
    · have hw := hw.1 c_4
      refine lv_aload_n hx hb dX1_partAll_71 rfl (lv_at hl 0 rfl) ?_
      refine lv_aload_n hx hb dX1_partAll_72 rfl (lv_at hl 0 rfl) ?_
      refine x1_g35 F C dX1_partAll_73 ?_
      refine lv_iload_n hx hb dX1_partAll_76 rfl (lv_at hl 1 rfl) ?_
      obtain ⟨h_5, hw⟩ := hw
      refine x1_ld35 F C h_5 dX1_partAll_77 ?_
      refine lv_if_eq (tgt := 85) hx hb dX1_partAll_78 (by decide) (fun c_6 => ?_) (fun c_6 => ?_)
      · have hw := hw.1 c_6
        refine lv_iconst (v := 0) hx hb dX1_partAll_85 (by decide) ?_
        exact kX1_partAll_86  F  x1 0 st _ _ _ hw C (lv_sub hl [0, 1] rfl)
      · have hw := hw.2 c_6
        refine lv_iconst (v := 1) hx hb dX1_partAll_81 (by decide) ?_
        refine lv_goto (tgt := 86) hx hb dX1_partAll_82 (by decide) ?_
        exact kX1_partAll_86  F  x1 1 st _ _ _ hw C (lv_sub hl [0, 1] rfl)
    · have hw := hw.2 c_4
      refine lv_aload_n hx hb dX1_partAll_49 rfl (lv_at hl 0 rfl) ?_
      refine x1_g39 F C dX1_partAll_50 ?_
      refine lv_iload hx hb dX1_partAll_53 (lv_at hl 2 rfl) ?_
      refine lv_lconst (v := 0) hx hb dX1_partAll_55 (by decide) ?_
      obtain ⟨h_45, hw⟩ := hw
      refine x1_st39 F C h_45 dX1_partAll_56 (fun H locs s_46 es_46 C => ?_)
      have hw := hw s_46 es_46
      refine lv_aload_n hx hb dX1_partAll_57 rfl (lv_at hl 0 rfl) ?_
      refine x1_g40 F C dX1_partAll_58 ?_
      refine lv_iload hx hb dX1_partAll_61 (lv_at hl 2 rfl) ?_
      refine lv_lconst (v := 1) hx hb dX1_partAll_63 (by decide) ?_
      obtain ⟨h_47, hw⟩ := hw
      refine x1_st40 F C h_47 dX1_partAll_64 (fun H locs s_48 es_48 C => ?_)
      have hw := hw s_48 es_48
      obtain ⟨x4_49, ex4_49⟩ : ∃ y : Int32, y = x4 + 1 := ⟨_, rfl⟩
      have hw := hw x4_49 ex4_49
      refine lv_iinc (v := x4_49) (lv' := [(4, .int x4_49), (0, .ref o), (1, .int x1)]) hx hb dX1_partAll_65 hl (k := 2) rfl (by rw [ex4_49]; rfl) (by decide) rfl (fun ls hl => ?_)
      refine lv_goto (tgt := 42) hx hb dX1_partAll_68 (by decide) ?_
      exact hk42 x1 x4_49 s_48 _ _ _ hw C (lv_sub hl [1, 2, 0] rfl)
set_option maxHeartbeats 4000000 in
theorem kX1_partAll_10  {post : CS → Prop}  (F : Fx p s m args meth c cX1_partAll 10 RX1 none D d E A) : ∀ (fu : Nat) (x1 : Int32) (x4 : Int32) (st : CS) (H : Heap) (locs : List Loc) (ls : Array Slot), wX1_partAll_10  post  fu x1 x4 st → Cx D (wM o ad d) A s st H locs → lv_has ls 10 [(0, .ref o), (1, .int x1), (4, .int x4)] → W p l e (headSpec (ws_ yX1_partAll cX1_partAll 10 none) rmX1_partAll).room s m args below meth c H locs 0 0 (QV below D d E (wM o ad d) A args s 0 0 post) (F0 m 10 ls []) := by
  obtain ⟨hx, hb, hr, hml, hown, hts, hlk, hA, hK, hE⟩ := id F
  intro fu
  induction fu with
  | zero =>
    intro x1 x4 st H locs ls hw
    exact hw.elim
  | succ n ih =>
    have hk10 := ih
    intro x1 x4 st H locs ls hw C hl
    unfold wX1_partAll_10 at hw
    refine lv_iload hx hb dX1_partAll_10 (lv_at hl 2 rfl) ?_
    refine lv_bipush (v := 24) hx hb dX1_partAll_12 (by decide) ?_
    refine lv_icmp_gt (tgt := 39) hx hb dX1_partAll_14 (by decide) (fun c_3 => ?_) (fun c_3 => ?_)
    · have hw := hw.1 c_3
      refine lv_iconst (v := 0) hx hb dX1_partAll_39 (by decide) ?_
      refine lv_istore (lv' := [(4, .int 0), (0, .ref o), (1, .int x1)]) hx hb dX1_partAll_40 hl (by decide) rfl (fun ls hl => ?_)
      obtain ⟨fu, hw⟩ := hw
      exact kX1_partAll_42  F  fu x1 0 st _ _ _ hw C (lv_sub hl [1, 2, 0] rfl)
    · have hw := hw.2 c_3
      refine lv_aload_n hx hb dX1_partAll_17 rfl (lv_at hl 0 rfl) ?_
      refine x1_g26 F C dX1_partAll_18 ?_
      refine lv_iload hx hb dX1_partAll_21 (lv_at hl 2 rfl) ?_
      refine lv_lconst (v := 0) hx hb dX1_partAll_23 (by decide) ?_
      obtain ⟨h_50, hw⟩ := hw
      refine x1_st26 F C h_50 dX1_partAll_24 (fun H locs s_51 es_51 C => ?_)
      have hw := hw s_51 es_51
      refine lv_aload_n hx hb dX1_partAll_25 rfl (lv_at hl 0 rfl) ?_
      refine x1_g27 F C dX1_partAll_26 ?_
      refine lv_iload hx hb dX1_partAll_29 (lv_at hl 2 rfl) ?_
      refine lv_lconst (v := 1) hx hb dX1_partAll_31 (by decide) ?_
      obtain ⟨h_52, hw⟩ := hw
      refine x1_st27 F C h_52 dX1_partAll_32 (fun H locs s_53 es_53 C => ?_)
      have hw := hw s_53 es_53
      obtain ⟨x4_54, ex4_54⟩ : ∃ y : Int32, y = x4 + 1 := ⟨_, rfl⟩
      have hw := hw x4_54 ex4_54
      refine lv_iinc (v := x4_54) (lv' := [(4, .int x4_54), (0, .ref o), (1, .int x1)]) hx hb dX1_partAll_33 hl (k := 2) rfl (by rw [ex4_54]; rfl) (by decide) rfl (fun ls hl => ?_)
      refine lv_goto (tgt := 10) hx hb dX1_partAll_36 (by decide) ?_
      exact hk10 x1 x4_54 s_53 _ _ _ hw C (lv_sub hl [1, 2, 0] rfl)
theorem ctX1_partAll (hE : Em E)  {post : CS → Prop} {s0 : CS} {p0 p1 p2 : Int32} (hw : wpX1_partAll  post s0 p0 p1 p2) : CtV l yX1_partAll (ws_ yX1_partAll cX1_partAll 10 none) rmX1_partAll D d E (wM o ad d) 0 0 [.ref o, .int p0, .int p1, .int p2] s0 post := by
  refine CtV.of hE (by decide) rfl (Nat.le_of_ble_eq_true rfl) ?_
  intro p e s m below meth c A ls F C hl
  have hl : lv_has ls 10 [(0, .ref o), (1, .int p0), (2, .int p1), (3, .int p2)] := hl
  unfold wpX1_partAll at hw
  obtain ⟨hx, hb, hr, hml, hown, hts, hlk, hA, hK, -⟩ := id F
  refine lv_aload_n hx hb dX1_partAll_0 rfl (lv_at hl 0 rfl) ?_
  refine lv_iload_n hx hb dX1_partAll_1 rfl (lv_at hl 1 rfl) ?_
  refine lv_iload_n hx hb dX1_partAll_2 rfl (lv_at hl 2 rfl) ?_
  refine lv_iload_n hx hb dX1_partAll_3 rfl (lv_at hl 3 rfl) ?_
  refine x_callV (rest := []) (ci := 5) (q := (RX1, TX1, 55)) F C (ctX1_begin hE hw) (cwV 3 hts (lw_V q1134 q1136 qs49 q71 q1137) rfl rfl rfl (by decide +kernel) ⟨Nat.le_of_ble_eq_true rfl, Nat.le_of_ble_eq_true rfl⟩) rfl rfl rfl hl.1 rfl (Nat.le_of_ble_eq_true rfl) dX1_partAll_4 ⟨Nat.zero_le _, Nat.zero_le _⟩ (fun s_1 H locs hw C => ?_)
  refine lv_iconst (v := 0) hx hb dX1_partAll_7 (by decide) ?_
  refine lv_istore (lv' := [(4, .int 0), (0, .ref o), (1, .int p0), (2, .int p1), (3, .int p2)]) hx hb dX1_partAll_8 hl (by decide) rfl (fun ls hl => ?_)
  obtain ⟨fu, hw⟩ := hw
  exact kX1_partAll_10  F  fu p0 0 s_1 _ _ _ hw C (lv_sub hl [1, 2, 0] rfl)

abbrev rmX1_tell : Room := { frames := 1, cells := 0, slots := 0, locals := 29 }
def wpX1_tell  (post : Int32 → CS → Prop) (s0 : CS) (p0 : Int64) (p1 : Int64) : Prop := (wpX1_divisor (fun r_2 s_1 => (¬ r_2 = 0 ∧ (∀ s_4 : CS, s_4 = uL s_1 44 (p0 / r_2) → (¬ r_2 = 0 ∧ (∀ s_6 : CS, s_6 = uL s_4 45 (p1 / r_2) → (post 1 s_6)))))) s0 p0 p1)
theorem ctX1_tell (hE : Em E)  {post : Int32 → CS → Prop} {s0 : CS} {p0 p1 : Int64} (hw : wpX1_tell  post s0 p0 p1) : CtI l yX1_tell (ws_ yX1_tell cX1_tell 7 (some .int)) rmX1_tell D d E (wM o ad d) 0 0 [.ref o, .long p0, .long p1] s0 post := by
  refine CtI.of hE (by decide) rfl (Nat.le_of_ble_eq_true rfl) ?_
  intro p e s m below meth c A ls F C hl
  have hl : lv_has ls 7 [(0, .ref o), (1, .long p0), (3, .long p1)] := hl
  unfold wpX1_tell at hw
  obtain ⟨hx, hb, hr, hml, hown, hts, hlk, hA, hK, -⟩ := id F
  refine lv_lload_n hx hb dX1_tell_0 rfl (lv_at hl 1 rfl) ?_
  refine lv_lload_n hx hb dX1_tell_1 rfl (lv_at hl 2 rfl) ?_
  refine x_callSL (rest := []) F C (ctX1_divisor hE hw) (va_cwS 2 hts (lw_S q1166 q1167 q71 q1168) rfl rfl rfl (by decide +kernel) ⟨Nat.le_of_ble_eq_true rfl, Nat.le_of_ble_eq_true rfl⟩) rfl hl.1 rfl (Nat.le_of_ble_eq_true rfl) dX1_tell_2 ⟨Nat.zero_le _, Nat.zero_le _⟩ (fun r_2 s_1 H locs hw C => ?_)
  refine lv_lstore (lv' := [(5, .long r_2), (0, .ref o), (1, .long p0), (3, .long p1)]) hx hb dX1_tell_5 hl (by decide) rfl (fun ls hl => ?_)
  refine lv_aload_n hx hb dX1_tell_7 rfl (lv_at hl 1 rfl) ?_
  refine lv_lload_n hx hb dX1_tell_8 rfl (lv_at hl 2 rfl) ?_
  refine lv_lload hx hb dX1_tell_9 (lv_at hl 0 rfl) ?_
  obtain ⟨h_3, hw⟩ := hw
  refine lv_ldiv hx hb dX1_tell_11 h_3 ?_
  refine x1_p44 F C dX1_tell_12 (fun H locs s_4 es_4 C => ?_)
  have hw := hw s_4 es_4
  refine lv_aload_n hx hb dX1_tell_15 rfl (lv_at hl 1 rfl) ?_
  refine lv_lload_n hx hb dX1_tell_16 rfl (lv_at hl 3 rfl) ?_
  refine lv_lload hx hb dX1_tell_17 (lv_at hl 0 rfl) ?_
  obtain ⟨h_5, hw⟩ := hw
  refine lv_ldiv hx hb dX1_tell_19 h_5 ?_
  refine x1_p45 F C dX1_tell_20 (fun H locs s_6 es_6 C => ?_)
  have hw := hw s_6 es_6
  refine lv_iconst (v := 1) hx hb dX1_tell_23 (by decide) ?_
  exact x_iret F C hw dX1_tell_24

abbrev rmX1_share : Room := { frames := 6, cells := 0, slots := 0, locals := 170 }
def wX1_share_48  (post : Int32 → CS → Prop)  (y0 : Int32) (st : CS) : Prop := (vp_in y0 25 ∧ (vp_in y0 25 ∧ (wpX1_tell (fun r_15 s_14 => (post r_15 s_14)) st (sM st 26 y0.toNatClampNeg) (sM st 27 y0.toNatClampNeg))))
def wpX1_share  (post : Int32 → CS → Prop) (s0 : CS) (p0 : Int32) (p1 : Int32) (p2 : Int32) : Prop := (wpX1_isTaker (fun r_2 s_1 => ((r_2 = 0 → (post (-1) s_1)) ∧ (¬ r_2 = 0 → (wpX1_asked (fun r_5 s_4 => ((0 ≤ r_5 → (wpX1_setOpen (fun s_7 => (wpX1_partAll (fun s_9 => ((p1 = (-9) → (wX1_share_48  post  24 s_9)) ∧ (¬ p1 = (-9) → (wX1_share_48  post  p1 s_9)))) s_7 p0 p2 0)) s_4 )) ∧ (¬ 0 ≤ r_5 → (post r_5 s_4)))) s_1 p0)))) s0 p1)
set_option maxHeartbeats 4000000 in
theorem kX1_share_48  {post : Int32 → CS → Prop}  (F : Fx p s m args meth c cX1_share 6 RX1 (some .int) D d E A) : ∀ (y0 : Int32) (st : CS) (H : Heap) (locs : List Loc) (ls : Array Slot), wX1_share_48  post  y0 st → Cx D (wM o ad d) A s st H locs → lv_has ls 6 [(0, .ref o)] → W p l e (headSpec (ws_ yX1_share cX1_share 6 (some .int)) rmX1_share).room s m args below meth c H locs 0 0 (QI below D d E (wM o ad d) A args s 0 0 post) (F0 m 48 ls [.int y0]) := by
  obtain ⟨hx, hb, hr, hml, hown, hts, hlk, hA, hK, hE⟩ := id F
  intro y0 st H locs ls hw C hl
  unfold wX1_share_48 at hw
  refine lv_istore (lv' := [(5, .int y0), (0, .ref o)]) hx hb dX1_share_48 hl (by decide) rfl (fun ls hl => ?_)
  refine lv_aload_n hx hb dX1_share_50 rfl (lv_at hl 1 rfl) ?_
  refine lv_aload_n hx hb dX1_share_51 rfl (lv_at hl 1 rfl) ?_
  refine x1_g26 F C dX1_share_52 ?_
  refine lv_iload hx hb dX1_share_55 (lv_at hl 0 rfl) ?_
  obtain ⟨h_12, hw⟩ := hw
  refine x1_ld26 F C h_12 dX1_share_57 ?_
  refine lv_aload_n hx hb dX1_share_58 rfl (lv_at hl 1 rfl) ?_
  refine x1_g27 F C dX1_share_59 ?_
  refine lv_iload hx hb dX1_share_62 (lv_at hl 0 rfl) ?_
  obtain ⟨h_13, hw⟩ := hw
  refine x1_ld27 F C h_13 dX1_share_64 ?_
  refine x_callI (rest := []) (ci := 5) (q := (RX1, TX1, 55)) F C (ctX1_tell hE hw) (cwV 2 hts (lw_V q1181 q1183 qs60 q71 q1184) rfl rfl rfl (by decide +kernel) ⟨Nat.le_of_ble_eq_true rfl, Nat.le_of_ble_eq_true rfl⟩) rfl rfl rfl hl.1 rfl (Nat.le_of_ble_eq_true rfl) dX1_share_65 ⟨Nat.zero_le _, Nat.zero_le _⟩ (fun r_15 s_14 H locs hw C => ?_)
  exact x_iret F C hw dX1_share_68
theorem ctX1_share (hE : Em E)  {post : Int32 → CS → Prop} {s0 : CS} {p0 p1 p2 : Int32} (hw : wpX1_share  post s0 p0 p1 p2) : CtI l yX1_share (ws_ yX1_share cX1_share 6 (some .int)) rmX1_share D d E (wM o ad d) 0 0 [.ref o, .int p0, .int p1, .int p2] s0 post := by
  refine CtI.of hE (by decide) rfl (Nat.le_of_ble_eq_true rfl) ?_
  intro p e s m below meth c A ls F C hl
  have hl : lv_has ls 6 [(0, .ref o), (1, .int p0), (2, .int p1), (3, .int p2)] := hl
  unfold wpX1_share at hw
  obtain ⟨hx, hb, hr, hml, hown, hts, hlk, hA, hK, -⟩ := id F
  refine lv_aload_n hx hb dX1_share_0 rfl (lv_at hl 0 rfl) ?_
  refine lv_iload_n hx hb dX1_share_1 rfl (lv_at hl 2 rfl) ?_
  refine x_callI (rest := []) (ci := 5) (q := (RX1, TX1, 55)) F C (ctX1_isTaker hE hw) (cwV 1 hts (lw_V q1122 q1124 qs46 q71 q1125) rfl rfl rfl (by decide +kernel) ⟨Nat.le_of_ble_eq_true rfl, Nat.le_of_ble_eq_true rfl⟩) rfl rfl rfl hl.1 rfl (Nat.le_of_ble_eq_true rfl) dX1_share_2 ⟨Nat.zero_le _, Nat.zero_le _⟩ (fun r_2 s_1 H locs hw C => ?_)
  refine lv_if_ne (tgt := 10) hx hb dX1_share_5 (by decide) (fun c_3 => ?_) (fun c_3 => ?_)
  · have hw := hw.2 c_3
    refine lv_aload_n hx hb dX1_share_10 rfl (lv_at hl 0 rfl) ?_
    refine lv_iload_n hx hb dX1_share_11 rfl (lv_at hl 1 rfl) ?_
    refine x_callI (rest := []) (ci := 5) (q := (RX1, TX1, 55)) F C (ctX1_asked hE hw) (cwV 1 hts (lw_V q1106 q1108 qs43 q71 q1109) rfl rfl rfl (by decide +kernel) ⟨Nat.le_of_ble_eq_true rfl, Nat.le_of_ble_eq_true rfl⟩) rfl rfl rfl hl.1 rfl (Nat.le_of_ble_eq_true rfl) dX1_share_12 ⟨Nat.zero_le _, Nat.zero_le _⟩ (fun r_5 s_4 H locs hw C => ?_)
    refine lv_istore (lv' := [(4, .int r_5), (0, .ref o), (1, .int p0), (2, .int p1), (3, .int p2)]) hx hb dX1_share_15 hl (by decide) rfl (fun ls hl => ?_)
    refine lv_iload hx hb dX1_share_17 (lv_at hl 0 rfl) ?_
    refine lv_if_ge (tgt := 25) hx hb dX1_share_19 (by decide) (fun c_6 => ?_) (fun c_6 => ?_)
    · have hw := hw.1 c_6
      refine lv_aload_n hx hb dX1_share_25 rfl (lv_at hl 1 rfl) ?_
      refine x_callV (rest := []) (ci := 5) (q := (RX1, TX1, 55)) F C (ctX1_setOpen hE hw) (cwV 0 hts (lw_V q1126 q1128 qs47 q71 q1129) rfl rfl rfl (by decide +kernel) ⟨Nat.le_of_ble_eq_true rfl, Nat.le_of_ble_eq_true rfl⟩) rfl rfl rfl hl.1 rfl (Nat.le_of_ble_eq_true rfl) dX1_share_26 ⟨Nat.zero_le _, Nat.zero_le _⟩ (fun s_7 H locs hw C => ?_)
      refine lv_aload_n hx hb dX1_share_29 rfl (lv_at hl 1 rfl) ?_
      refine lv_iload_n hx hb dX1_share_30 rfl (lv_at hl 2 rfl) ?_
      refine lv_iload_n hx hb dX1_share_31 rfl (lv_at hl 4 rfl) ?_
      refine lv_iconst (v := 0) hx hb dX1_share_32 (by decide) ?_
      refine x_callV (rest := []) (ci := 5) (q := (RX1, TX1, 55)) F C (ctX1_partAll hE hw) (cwV 3 hts (lw_V q1130 q1132 qs48 q71 q1133) rfl rfl rfl (by decide +kernel) ⟨Nat.le_of_ble_eq_true rfl, Nat.le_of_ble_eq_true rfl⟩) rfl rfl rfl hl.1 rfl (Nat.le_of_ble_eq_true rfl) dX1_share_33 ⟨Nat.zero_le _, Nat.zero_le _⟩ (fun s_9 H locs hw C => ?_)
      refine lv_iload_n hx hb dX1_share_36 rfl (lv_at hl 3 rfl) ?_
      refine lv_bipush (v := (-9)) hx hb dX1_share_37 (by decide) ?_
      refine lv_icmp_ne (tgt := 47) hx hb dX1_share_39 (by decide) (fun c_11 => ?_) (fun c_11 => ?_)
      · have hw := hw.2 c_11
        refine lv_iload_n hx hb dX1_share_47 rfl (lv_at hl 3 rfl) ?_
        exact kX1_share_48  F  p1 s_9 _ _ _ hw C (lv_sub hl [1] rfl)
      · have hw := hw.1 c_11
        refine lv_bipush (v := 24) hx hb dX1_share_42 (by decide) ?_
        refine lv_goto (tgt := 48) hx hb dX1_share_44 (by decide) ?_
        exact kX1_share_48  F  24 s_9 _ _ _ hw C (lv_sub hl [1] rfl)
    · have hw := hw.2 c_6
      refine lv_iload hx hb dX1_share_22 (lv_at hl 0 rfl) ?_
      exact x_iret F C hw dX1_share_24
  · have hw := hw.1 c_3
    refine lv_iconst (v := (-1)) hx hb dX1_share_8 (by decide) ?_
    exact x_iret F C hw dX1_share_9

abbrev rmX1_circle : Room := { frames := 6, cells := 0, slots := 0, locals := 170 }
def wpX1_circle  (post : Int32 → CS → Prop) (s0 : CS) (p0 : Int32) (p1 : Int32) : Prop := (wpX1_asked (fun r_2 s_1 => ((0 ≤ r_2 → (wpX1_setOpen (fun s_4 => (wpX1_partAll (fun s_6 => (post (sI s_6 43) s_6)) s_4 p0 p1 0)) s_1 )) ∧ (¬ 0 ≤ r_2 → (post r_2 s_1)))) s0 p0)
theorem ctX1_circle (hE : Em E)  {post : Int32 → CS → Prop} {s0 : CS} {p0 p1 : Int32} (hw : wpX1_circle  post s0 p0 p1) : CtI l yX1_circle (ws_ yX1_circle cX1_circle 4 (some .int)) rmX1_circle D d E (wM o ad d) 0 0 [.ref o, .int p0, .int p1] s0 post := by
  refine CtI.of hE (by decide) rfl (Nat.le_of_ble_eq_true rfl) ?_
  intro p e s m below meth c A ls F C hl
  have hl : lv_has ls 4 [(0, .ref o), (1, .int p0), (2, .int p1)] := hl
  unfold wpX1_circle at hw
  obtain ⟨hx, hb, hr, hml, hown, hts, hlk, hA, hK, -⟩ := id F
  refine lv_aload_n hx hb dX1_circle_0 rfl (lv_at hl 0 rfl) ?_
  refine lv_iload_n hx hb dX1_circle_1 rfl (lv_at hl 1 rfl) ?_
  refine x_callI (rest := []) (ci := 5) (q := (RX1, TX1, 55)) F C (ctX1_asked hE hw) (cwV 1 hts (lw_V q1106 q1108 qs43 q71 q1109) rfl rfl rfl (by decide +kernel) ⟨Nat.le_of_ble_eq_true rfl, Nat.le_of_ble_eq_true rfl⟩) rfl rfl rfl hl.1 rfl (Nat.le_of_ble_eq_true rfl) dX1_circle_2 ⟨Nat.zero_le _, Nat.zero_le _⟩ (fun r_2 s_1 H locs hw C => ?_)
  refine lv_istore_n (lv' := [(3, .int r_2), (0, .ref o), (1, .int p0), (2, .int p1)]) hx hb dX1_circle_5 rfl hl (by decide) rfl (fun ls hl => ?_)
  refine lv_iload_n hx hb dX1_circle_6 rfl (lv_at hl 0 rfl) ?_
  refine lv_if_ge (tgt := 12) hx hb dX1_circle_7 (by decide) (fun c_3 => ?_) (fun c_3 => ?_)
  · have hw := hw.1 c_3
    refine lv_aload_n hx hb dX1_circle_12 rfl (lv_at hl 1 rfl) ?_
    refine x_callV (rest := []) (ci := 5) (q := (RX1, TX1, 55)) F C (ctX1_setOpen hE hw) (cwV 0 hts (lw_V q1126 q1128 qs47 q71 q1129) rfl rfl rfl (by decide +kernel) ⟨Nat.le_of_ble_eq_true rfl, Nat.le_of_ble_eq_true rfl⟩) rfl rfl rfl hl.1 rfl (Nat.le_of_ble_eq_true rfl) dX1_circle_13 ⟨Nat.zero_le _, Nat.zero_le _⟩ (fun s_4 H locs hw C => ?_)
    refine lv_aload_n hx hb dX1_circle_16 rfl (lv_at hl 1 rfl) ?_
    refine lv_iload_n hx hb dX1_circle_17 rfl (lv_at hl 2 rfl) ?_
    refine lv_iload_n hx hb dX1_circle_18 rfl (lv_at hl 3 rfl) ?_
    refine lv_iconst (v := 0) hx hb dX1_circle_19 (by decide) ?_
    refine x_callV (rest := []) (ci := 5) (q := (RX1, TX1, 55)) F C (ctX1_partAll hE hw) (cwV 3 hts (lw_V q1130 q1132 qs48 q71 q1133) rfl rfl rfl (by decide +kernel) ⟨Nat.le_of_ble_eq_true rfl, Nat.le_of_ble_eq_true rfl⟩) rfl rfl rfl hl.1 rfl (Nat.le_of_ble_eq_true rfl) dX1_circle_20 ⟨Nat.zero_le _, Nat.zero_le _⟩ (fun s_6 H locs hw C => ?_)
    refine lv_aload_n hx hb dX1_circle_23 rfl (lv_at hl 1 rfl) ?_
    refine x1_g43 F C dX1_circle_24 ?_
    exact x_iret F C hw dX1_circle_27
  · have hw := hw.2 c_3
    refine lv_iload_n hx hb dX1_circle_10 rfl (lv_at hl 0 rfl) ?_
    exact x_iret F C hw dX1_circle_11

abbrev rmX1_heirs : Room := { frames := 6, cells := 0, slots := 0, locals := 170 }
def wX1_heirs_57  (post : Int32 → CS → Prop) (k29 : Int32 → Int32 → CS → Prop) (x5 : Int32) (y0 : Int32) (y1 : Int32) (st : CS) : Prop := (∀ x4_11 : Int32, x4_11 = (y1 + y0) → (∀ x5_12 : Int32, x5_12 = x5 + 1 → (k29 x4_11 x5_12 st)))
def wX1_heirs_29  (post : Int32 → CS → Prop)  : Nat → Int32 → Int32 → CS → Prop
  | 0 => fun _ _ _ => False
  | n + 1 => fun x4 x5 st => (((sI st 2) ≤ x5 → (post x4 st)) ∧ (¬ (sI st 2) ≤ x5 → (vp_in x5 25 ∧ (((sM st 26 x5.toNatClampNeg) ≤ 0 → (wX1_heirs_57  post (wX1_heirs_29  post  n) x5 0 x4 st)) ∧ (¬ (sM st 26 x5.toNatClampNeg) ≤ 0 → (wX1_heirs_57  post (wX1_heirs_29  post  n) x5 1 x4 st))))))
def wpX1_heirs  (post : Int32 → CS → Prop) (s0 : CS) (p0 : Int32) (p1 : Int32) : Prop := (wpX1_asked (fun r_2 s_1 => ((0 ≤ r_2 → (wpX1_setOpen (fun s_4 => (wpX1_partAll (fun s_6 => (∃ fu : Nat, wX1_heirs_29  post  fu 0 0 s_6)) s_4 p0 p1 0)) s_1 )) ∧ (¬ 0 ≤ r_2 → (post r_2 s_1)))) s0 p0)
set_option maxHeartbeats 4000000 in
theorem kX1_heirs_57  {post : Int32 → CS → Prop} {k29 : Int32 → Int32 → CS → Prop} (F : Fx p s m args meth c cX1_heirs 6 RX1 (some .int) D d E A) (hk29 : ∀ (x4 : Int32) (x5 : Int32) (st : CS) (H : Heap) (locs : List Loc) (ls : Array Slot), k29 x4 x5 st → Cx D (wM o ad d) A s st H locs → lv_has ls 6 [(0, .ref o), (4, .int x4), (5, .int x5)] → W p l e (headSpec (ws_ yX1_heirs cX1_heirs 6 (some .int)) rmX1_heirs).room s m args below meth c H locs 0 0 (QI below D d E (wM o ad d) A args s 0 0 post) (F0 m 29 ls [])) : ∀ (x5 : Int32) (y0 : Int32) (y1 : Int32) (st : CS) (H : Heap) (locs : List Loc) (ls : Array Slot), wX1_heirs_57  post k29 x5 y0 y1 st → Cx D (wM o ad d) A s st H locs → lv_has ls 6 [(0, .ref o), (5, .int x5)] → W p l e (headSpec (ws_ yX1_heirs cX1_heirs 6 (some .int)) rmX1_heirs).room s m args below meth c H locs 0 0 (QI below D d E (wM o ad d) A args s 0 0 post) (F0 m 57 ls [.int y0, .int y1]) := by
  obtain ⟨hx, hb, hr, hml, hown, hts, hlk, hA, hK, hE⟩ := id F
  intro x5 y0 y1 st H locs ls hw C hl
  unfold wX1_heirs_57 at hw
  refine lv_iadd hx hb dX1_heirs_57 ?_
  refine lv_topi (fun x4_11 ex4_11 => ?_)
  have hw := hw x4_11 ex4_11
  refine lv_istore (lv' := [(4, .int x4_11), (0, .ref o), (5, .int x5)]) hx hb dX1_heirs_58 hl (by decide) rfl (fun ls hl => ?_)
  obtain ⟨x5_12, ex5_12⟩ : ∃ y : Int32, y = x5 + 1 := ⟨_, rfl⟩
  have hw := hw x5_12 ex5_12
  refine lv_iinc (v := x5_12) (lv' := [(5, .int x5_12), (4, .int x4_11), (0, .ref o)]) hx hb dX1_heirs_60 hl (k := 2) rfl (by rw [ex5_12]; rfl) (by decide) rfl (fun ls hl => ?_)
  refine lv_goto (tgt := 29) hx hb dX1_heirs_63 (by decide) ?_
  exact hk29 x4_11 x5_12 st _ _ _ hw C (lv_sub hl [2, 1, 0] rfl)
set_option maxHeartbeats 4000000 in
theorem kX1_heirs_29  {post : Int32 → CS → Prop}  (F : Fx p s m args meth c cX1_heirs 6 RX1 (some .int) D d E A) : ∀ (fu : Nat) (x4 : Int32) (x5 : Int32) (st : CS) (H : Heap) (locs : List Loc) (ls : Array Slot), wX1_heirs_29  post  fu x4 x5 st → Cx D (wM o ad d) A s st H locs → lv_has ls 6 [(0, .ref o), (4, .int x4), (5, .int x5)] → W p l e (headSpec (ws_ yX1_heirs cX1_heirs 6 (some .int)) rmX1_heirs).room s m args below meth c H locs 0 0 (QI below D d E (wM o ad d) A args s 0 0 post) (F0 m 29 ls []) := by
  obtain ⟨hx, hb, hr, hml, hown, hts, hlk, hA, hK, hE⟩ := id F
  intro fu
  induction fu with
  | zero =>
    intro x4 x5 st H locs ls hw
    exact hw.elim
  | succ n ih =>
    have hk29 := ih
    intro x4 x5 st H locs ls hw C hl
    unfold wX1_heirs_29 at hw
    refine lv_iload hx hb dX1_heirs_29 (lv_at hl 2 rfl) ?_
    refine lv_aload_n hx hb dX1_heirs_31 rfl (lv_at hl 0 rfl) ?_
    refine x1_g2 F C dX1_heirs_32 ?_
    refine lv_icmp_ge (tgt := 66) hx hb dX1_heirs_35 (by decide) (fun c_8 => ?_) (fun c_8 => ?_)
    · have hw := hw.1 c_8
      refine lv_iload hx hb dX1_heirs_66 (lv_at hl 1 rfl) ?_
      exact x_iret F C hw dX1_heirs_68
    · have hw := hw.2 c_8
      refine lv_iload hx hb dX1_heirs_38 (lv_at hl 1 rfl) ?_
      refine lv_aload_n hx hb dX1_heirs_40 rfl (lv_at hl 0 rfl) ?_
      refine x1_g26 F C dX1_heirs_41 ?_
      refine lv_iload hx hb dX1_heirs_44 (lv_at hl 2 rfl) ?_
      obtain ⟨h_9, hw⟩ := hw
      refine x1_ld26 F C h_9 dX1_heirs_46 ?_
      refine lv_lconst (v := 0) hx hb dX1_heirs_47 (by decide) ?_
      refine W.lcmp hx hb dX1_heirs_48 ?_
      refine lv_if_le (tgt := 56) hx hb dX1_heirs_49 (by decide) (fun c_10 => ?_) (fun c_10 => ?_)
      · have hw := hw.1 ((lg_cmp_le _ _).mp c_10)
        refine lv_iconst (v := 0) hx hb dX1_heirs_56 (by decide) ?_
        exact kX1_heirs_57  F hk29 x5 0 x4 st _ _ _ hw C (lv_sub hl [0, 2] rfl)
      · have hw := hw.2 (fun h9 => c_10 ((lg_cmp_le _ _).mpr h9))
        refine lv_iconst (v := 1) hx hb dX1_heirs_52 (by decide) ?_
        refine lv_goto (tgt := 57) hx hb dX1_heirs_53 (by decide) ?_
        exact kX1_heirs_57  F hk29 x5 1 x4 st _ _ _ hw C (lv_sub hl [0, 2] rfl)
theorem ctX1_heirs (hE : Em E)  {post : Int32 → CS → Prop} {s0 : CS} {p0 p1 : Int32} (hw : wpX1_heirs  post s0 p0 p1) : CtI l yX1_heirs (ws_ yX1_heirs cX1_heirs 6 (some .int)) rmX1_heirs D d E (wM o ad d) 0 0 [.ref o, .int p0, .int p1] s0 post := by
  refine CtI.of hE (by decide) rfl (Nat.le_of_ble_eq_true rfl) ?_
  intro p e s m below meth c A ls F C hl
  have hl : lv_has ls 6 [(0, .ref o), (1, .int p0), (2, .int p1)] := hl
  unfold wpX1_heirs at hw
  obtain ⟨hx, hb, hr, hml, hown, hts, hlk, hA, hK, -⟩ := id F
  refine lv_aload_n hx hb dX1_heirs_0 rfl (lv_at hl 0 rfl) ?_
  refine lv_iload_n hx hb dX1_heirs_1 rfl (lv_at hl 1 rfl) ?_
  refine x_callI (rest := []) (ci := 5) (q := (RX1, TX1, 55)) F C (ctX1_asked hE hw) (cwV 1 hts (lw_V q1106 q1108 qs43 q71 q1109) rfl rfl rfl (by decide +kernel) ⟨Nat.le_of_ble_eq_true rfl, Nat.le_of_ble_eq_true rfl⟩) rfl rfl rfl hl.1 rfl (Nat.le_of_ble_eq_true rfl) dX1_heirs_2 ⟨Nat.zero_le _, Nat.zero_le _⟩ (fun r_2 s_1 H locs hw C => ?_)
  refine lv_istore_n (lv' := [(3, .int r_2), (0, .ref o), (1, .int p0), (2, .int p1)]) hx hb dX1_heirs_5 rfl hl (by decide) rfl (fun ls hl => ?_)
  refine lv_iload_n hx hb dX1_heirs_6 rfl (lv_at hl 0 rfl) ?_
  refine lv_if_ge (tgt := 12) hx hb dX1_heirs_7 (by decide) (fun c_3 => ?_) (fun c_3 => ?_)
  · have hw := hw.1 c_3
    refine lv_aload_n hx hb dX1_heirs_12 rfl (lv_at hl 1 rfl) ?_
    refine x_callV (rest := []) (ci := 5) (q := (RX1, TX1, 55)) F C (ctX1_setOpen hE hw) (cwV 0 hts (lw_V q1126 q1128 qs47 q71 q1129) rfl rfl rfl (by decide +kernel) ⟨Nat.le_of_ble_eq_true rfl, Nat.le_of_ble_eq_true rfl⟩) rfl rfl rfl hl.1 rfl (Nat.le_of_ble_eq_true rfl) dX1_heirs_13 ⟨Nat.zero_le _, Nat.zero_le _⟩ (fun s_4 H locs hw C => ?_)
    refine lv_aload_n hx hb dX1_heirs_16 rfl (lv_at hl 1 rfl) ?_
    refine lv_iload_n hx hb dX1_heirs_17 rfl (lv_at hl 2 rfl) ?_
    refine lv_iload_n hx hb dX1_heirs_18 rfl (lv_at hl 3 rfl) ?_
    refine lv_iconst (v := 0) hx hb dX1_heirs_19 (by decide) ?_
    refine x_callV (rest := []) (ci := 5) (q := (RX1, TX1, 55)) F C (ctX1_partAll hE hw) (cwV 3 hts (lw_V q1130 q1132 qs48 q71 q1133) rfl rfl rfl (by decide +kernel) ⟨Nat.le_of_ble_eq_true rfl, Nat.le_of_ble_eq_true rfl⟩) rfl rfl rfl hl.1 rfl (Nat.le_of_ble_eq_true rfl) dX1_heirs_20 ⟨Nat.zero_le _, Nat.zero_le _⟩ (fun s_6 H locs hw C => ?_)
    refine lv_iconst (v := 0) hx hb dX1_heirs_23 (by decide) ?_
    refine lv_istore (lv' := [(4, .int 0), (3, .int r_2), (0, .ref o), (1, .int p0), (2, .int p1)]) hx hb dX1_heirs_24 hl (by decide) rfl (fun ls hl => ?_)
    refine lv_iconst (v := 0) hx hb dX1_heirs_26 (by decide) ?_
    refine lv_istore (lv' := [(5, .int 0), (4, .int 0), (3, .int r_2), (0, .ref o), (1, .int p0), (2, .int p1)]) hx hb dX1_heirs_27 hl (by decide) rfl (fun ls hl => ?_)
    obtain ⟨fu, hw⟩ := hw
    exact kX1_heirs_29  F  fu 0 0 s_6 _ _ _ hw C (lv_sub hl [3, 1, 0] rfl)
  · have hw := hw.2 c_3
    refine lv_iload_n hx hb dX1_heirs_10 rfl (lv_at hl 0 rfl) ?_
    exact x_iret F C hw dX1_heirs_11

abbrev rmX1_setWays : Room := { frames := 6, cells := 0, slots := 0, locals := 170 }
def wX1_setWays_21  (post : CS → Prop) (k2 : Int32 → Int32 → CS → Prop) : Nat → Int32 → Int32 → Int32 → CS → Prop
  | 0 => fun _ _ _ _ => False
  | n + 1 => fun x1 x2 x3 st => ((24 < x3 → (∀ x2_5 : Int32, x2_5 = x2 + 1 → (k2 x1 x2_5 st))) ∧ (¬ 24 < x3 → (vp_in x3 25 ∧ (vp_in ((25 * x2) + x3) 6400 ∧ ∀ s_8 : CS, s_8 = uM st 46 ((25 * x2) + x3).toNatClampNeg (sM st 26 x3.toNatClampNeg) → (vp_in x3 25 ∧ (vp_in ((25 * x2) + x3) 6400 ∧ ∀ s_11 : CS, s_11 = uM s_8 47 ((25 * x2) + x3).toNatClampNeg (sM s_8 27 x3.toNatClampNeg) → (∀ x3_12 : Int32, x3_12 = x3 + 1 → (wX1_setWays_21  post k2 n x1 x2 x3_12 s_11))))))))
def wX1_setWays_2  (post : CS → Prop)  : Nat → Int32 → Int32 → CS → Prop
  | 0 => fun _ _ _ => False
  | n + 1 => fun x1 x2 st => (((1 <<< ((sI st 36) &&& 31)) ≤ x2 → (post st)) ∧ (¬ (1 <<< ((sI st 36) &&& 31)) ≤ x2 → (wpX1_partAll (fun s_2 => (∃ fu : Nat, wX1_setWays_21  post (wX1_setWays_2  post  n) fu x1 x2 0 s_2)) st x1 0 x2)))
def wpX1_setWays  (post : CS → Prop) (s0 : CS) (p0 : Int32) : Prop := (∃ fu : Nat, wX1_setWays_2  post  fu p0 0 s0)
set_option maxHeartbeats 4000000 in
theorem kX1_setWays_21  {post : CS → Prop} {k2 : Int32 → Int32 → CS → Prop} (F : Fx p s m args meth c cX1_setWays 4 RX1 none D d E A) (hk2 : ∀ (x1 : Int32) (x2 : Int32) (st : CS) (H : Heap) (locs : List Loc) (ls : Array Slot), k2 x1 x2 st → Cx D (wM o ad d) A s st H locs → lv_has ls 4 [(0, .ref o), (1, .int x1), (2, .int x2)] → W p l e (headSpec (ws_ yX1_setWays cX1_setWays 4 none) rmX1_setWays).room s m args below meth c H locs 0 0 (QV below D d E (wM o ad d) A args s 0 0 post) (F0 m 2 ls [])) : ∀ (fu : Nat) (x1 : Int32) (x2 : Int32) (x3 : Int32) (st : CS) (H : Heap) (locs : List Loc) (ls : Array Slot), wX1_setWays_21  post k2 fu x1 x2 x3 st → Cx D (wM o ad d) A s st H locs → lv_has ls 4 [(0, .ref o), (1, .int x1), (2, .int x2), (3, .int x3)] → W p l e (headSpec (ws_ yX1_setWays cX1_setWays 4 none) rmX1_setWays).room s m args below meth c H locs 0 0 (QV below D d E (wM o ad d) A args s 0 0 post) (F0 m 21 ls []) := by
  obtain ⟨hx, hb, hr, hml, hown, hts, hlk, hA, hK, hE⟩ := id F
  intro fu
  induction fu with
  | zero =>
    intro x1 x2 x3 st H locs ls hw
    exact hw.elim
  | succ n ih =>
    have hk21 := ih
    intro x1 x2 x3 st H locs ls hw C hl
    unfold wX1_setWays_21 at hw
    refine lv_iload_n hx hb dX1_setWays_21 rfl (lv_at hl 3 rfl) ?_
    refine lv_bipush (v := 24) hx hb dX1_setWays_22 (by decide) ?_
    refine lv_icmp_gt (tgt := 67) hx hb dX1_setWays_24 (by decide) (fun c_4 => ?_) (fun c_4 => ?_)
    · have hw := hw.1 c_4
      obtain ⟨x2_5, ex2_5⟩ : ∃ y : Int32, y = x2 + 1 := ⟨_, rfl⟩
      have hw := hw x2_5 ex2_5
      refine lv_iinc (v := x2_5) (lv' := [(2, .int x2_5), (0, .ref o), (1, .int x1), (3, .int x3)]) hx hb dX1_setWays_67 hl (k := 2) rfl (by rw [ex2_5]; rfl) (by decide) rfl (fun ls hl => ?_)
      refine lv_goto (tgt := 2) hx hb dX1_setWays_70 (by decide) ?_
      exact hk2 x1 x2_5 st _ _ _ hw C (lv_sub hl [1, 2, 0] rfl)
    · have hw := hw.2 c_4
      refine lv_aload_n hx hb dX1_setWays_27 rfl (lv_at hl 0 rfl) ?_
      refine x1_g46 F C dX1_setWays_28 ?_
      refine lv_bipush (v := 25) hx hb dX1_setWays_31 (by decide) ?_
      refine lv_iload_n hx hb dX1_setWays_33 rfl (lv_at hl 2 rfl) ?_
      refine lv_imul hx hb dX1_setWays_34 ?_
      refine lv_iload_n hx hb dX1_setWays_35 rfl (lv_at hl 3 rfl) ?_
      refine lv_iadd hx hb dX1_setWays_36 ?_
      refine lv_aload_n hx hb dX1_setWays_37 rfl (lv_at hl 0 rfl) ?_
      refine x1_g26 F C dX1_setWays_38 ?_
      refine lv_iload_n hx hb dX1_setWays_41 rfl (lv_at hl 3 rfl) ?_
      obtain ⟨h_6, hw⟩ := hw
      refine x1_ld26 F C h_6 dX1_setWays_42 ?_
      obtain ⟨h_7, hw⟩ := hw
      refine x1_st46 F C h_7 dX1_setWays_43 (fun H locs s_8 es_8 C => ?_)
      have hw := hw s_8 es_8
      refine lv_aload_n hx hb dX1_setWays_44 rfl (lv_at hl 0 rfl) ?_
      refine x1_g47 F C dX1_setWays_45 ?_
      refine lv_bipush (v := 25) hx hb dX1_setWays_48 (by decide) ?_
      refine lv_iload_n hx hb dX1_setWays_50 rfl (lv_at hl 2 rfl) ?_
      refine lv_imul hx hb dX1_setWays_51 ?_
      refine lv_iload_n hx hb dX1_setWays_52 rfl (lv_at hl 3 rfl) ?_
      refine lv_iadd hx hb dX1_setWays_53 ?_
      refine lv_aload_n hx hb dX1_setWays_54 rfl (lv_at hl 0 rfl) ?_
      refine x1_g27 F C dX1_setWays_55 ?_
      refine lv_iload_n hx hb dX1_setWays_58 rfl (lv_at hl 3 rfl) ?_
      obtain ⟨h_9, hw⟩ := hw
      refine x1_ld27 F C h_9 dX1_setWays_59 ?_
      obtain ⟨h_10, hw⟩ := hw
      refine x1_st47 F C h_10 dX1_setWays_60 (fun H locs s_11 es_11 C => ?_)
      have hw := hw s_11 es_11
      obtain ⟨x3_12, ex3_12⟩ : ∃ y : Int32, y = x3 + 1 := ⟨_, rfl⟩
      have hw := hw x3_12 ex3_12
      refine lv_iinc (v := x3_12) (lv' := [(3, .int x3_12), (0, .ref o), (1, .int x1), (2, .int x2)]) hx hb dX1_setWays_61 hl (k := 3) rfl (by rw [ex3_12]; rfl) (by decide) rfl (fun ls hl => ?_)
      refine lv_goto (tgt := 21) hx hb dX1_setWays_64 (by decide) ?_
      exact hk21 x1 x2 x3_12 s_11 _ _ _ hw C (lv_sub hl [1, 2, 3, 0] rfl)
set_option maxHeartbeats 4000000 in
theorem kX1_setWays_2  {post : CS → Prop}  (F : Fx p s m args meth c cX1_setWays 4 RX1 none D d E A) : ∀ (fu : Nat) (x1 : Int32) (x2 : Int32) (st : CS) (H : Heap) (locs : List Loc) (ls : Array Slot), wX1_setWays_2  post  fu x1 x2 st → Cx D (wM o ad d) A s st H locs → lv_has ls 4 [(0, .ref o), (1, .int x1), (2, .int x2)] → W p l e (headSpec (ws_ yX1_setWays cX1_setWays 4 none) rmX1_setWays).room s m args below meth c H locs 0 0 (QV below D d E (wM o ad d) A args s 0 0 post) (F0 m 2 ls []) := by
  obtain ⟨hx, hb, hr, hml, hown, hts, hlk, hA, hK, hE⟩ := id F
  intro fu
  induction fu with
  | zero =>
    intro x1 x2 st H locs ls hw
    exact hw.elim
  | succ n ih =>
    have hk2 := ih
    intro x1 x2 st H locs ls hw C hl
    unfold wX1_setWays_2 at hw
    refine lv_iload_n hx hb dX1_setWays_2 rfl (lv_at hl 2 rfl) ?_
    refine lv_iconst (v := 1) hx hb dX1_setWays_3 (by decide) ?_
    refine lv_aload_n hx hb dX1_setWays_4 rfl (lv_at hl 0 rfl) ?_
    refine x1_g36 F C dX1_setWays_5 ?_
    refine lv_ishl hx hb dX1_setWays_8 ?_
    refine lv_icmp_ge (tgt := 73) hx hb dX1_setWays_9 (by decide) (fun c_1 => ?_) (fun c_1 => ?_)
    · have hw := hw.1 c_1
      exact x_vret F C hw dX1_setWays_73
    · have hw := hw.2 c_1
      refine lv_aload_n hx hb dX1_setWays_12 rfl (lv_at hl 0 rfl) ?_
      refine lv_iload_n hx hb dX1_setWays_13 rfl (lv_at hl 1 rfl) ?_
      refine lv_iconst (v := 0) hx hb dX1_setWays_14 (by decide) ?_
      refine lv_iload_n hx hb dX1_setWays_15 rfl (lv_at hl 2 rfl) ?_
      refine x_callV (rest := []) (ci := 5) (q := (RX1, TX1, 55)) F C (ctX1_partAll hE hw) (cwV 3 hts (lw_V q1130 q1132 qs48 q71 q1133) rfl rfl rfl (by decide +kernel) ⟨Nat.le_of_ble_eq_true rfl, Nat.le_of_ble_eq_true rfl⟩) rfl rfl rfl hl.1 rfl (Nat.le_of_ble_eq_true rfl) dX1_setWays_16 ⟨Nat.zero_le _, Nat.zero_le _⟩ (fun s_2 H locs hw C => ?_)
      refine lv_iconst (v := 0) hx hb dX1_setWays_19 (by decide) ?_
      refine lv_istore_n (lv' := [(3, .int 0), (0, .ref o), (1, .int x1), (2, .int x2)]) hx hb dX1_setWays_20 rfl hl (by decide) rfl (fun ls hl => ?_)
      obtain ⟨fu, hw⟩ := hw
      exact kX1_setWays_21  F hk2 fu x1 x2 0 s_2 _ _ _ hw C (lv_sub hl [1, 2, 3, 0] rfl)
theorem ctX1_setWays (hE : Em E)  {post : CS → Prop} {s0 : CS} {p0 : Int32} (hw : wpX1_setWays  post s0 p0) : CtV l yX1_setWays (ws_ yX1_setWays cX1_setWays 4 none) rmX1_setWays D d E (wM o ad d) 0 0 [.ref o, .int p0] s0 post := by
  refine CtV.of hE (by decide) rfl (Nat.le_of_ble_eq_true rfl) ?_
  intro p e s m below meth c A ls F C hl
  have hl : lv_has ls 4 [(0, .ref o), (1, .int p0)] := hl
  unfold wpX1_setWays at hw
  obtain ⟨hx, hb, hr, hml, hown, hts, hlk, hA, hK, -⟩ := id F
  refine lv_iconst (v := 0) hx hb dX1_setWays_0 (by decide) ?_
  refine lv_istore_n (lv' := [(2, .int 0), (0, .ref o), (1, .int p0)]) hx hb dX1_setWays_1 rfl hl (by decide) rfl (fun ls hl => ?_)
  obtain ⟨fu, hw⟩ := hw
  exact kX1_setWays_2  F  fu p0 0 s0 _ _ _ hw C (lv_sub hl [1, 2, 0] rfl)

abbrev rmX1_askedOpen : Room := { frames := 7, cells := 0, slots := 0, locals := 193 }
def wpX1_askedOpen  (post : Int32 → CS → Prop) (s0 : CS) (p0 : Int32) : Prop := (wpX1_asked (fun r_2 s_1 => ((0 ≤ r_2 → (wpX1_setOpen (fun s_4 => (((sI s_4 36) ≤ 8 → (wpX1_setWays (fun s_7 => (post 0 s_7)) s_4 p0)) ∧ (¬ (sI s_4 36) ≤ 8 → (post (-6) s_4)))) s_1 )) ∧ (¬ 0 ≤ r_2 → (post r_2 s_1)))) s0 p0)
theorem ctX1_askedOpen (hE : Em E)  {post : Int32 → CS → Prop} {s0 : CS} {p0 : Int32} (hw : wpX1_askedOpen  post s0 p0) : CtI l yX1_askedOpen (ws_ yX1_askedOpen cX1_askedOpen 3 (some .int)) rmX1_askedOpen D d E (wM o ad d) 0 0 [.ref o, .int p0] s0 post := by
  refine CtI.of hE (by decide) rfl (Nat.le_of_ble_eq_true rfl) ?_
  intro p e s m below meth c A ls F C hl
  have hl : lv_has ls 3 [(0, .ref o), (1, .int p0)] := hl
  unfold wpX1_askedOpen at hw
  obtain ⟨hx, hb, hr, hml, hown, hts, hlk, hA, hK, -⟩ := id F
  refine lv_aload_n hx hb dX1_askedOpen_0 rfl (lv_at hl 0 rfl) ?_
  refine lv_iload_n hx hb dX1_askedOpen_1 rfl (lv_at hl 1 rfl) ?_
  refine x_callI (rest := []) (ci := 5) (q := (RX1, TX1, 55)) F C (ctX1_asked hE hw) (cwV 1 hts (lw_V q1106 q1108 qs43 q71 q1109) rfl rfl rfl (by decide +kernel) ⟨Nat.le_of_ble_eq_true rfl, Nat.le_of_ble_eq_true rfl⟩) rfl rfl rfl hl.1 rfl (Nat.le_of_ble_eq_true rfl) dX1_askedOpen_2 ⟨Nat.zero_le _, Nat.zero_le _⟩ (fun r_2 s_1 H locs hw C => ?_)
  refine lv_istore_n (lv' := [(2, .int r_2), (0, .ref o), (1, .int p0)]) hx hb dX1_askedOpen_5 rfl hl (by decide) rfl (fun ls hl => ?_)
  refine lv_iload_n hx hb dX1_askedOpen_6 rfl (lv_at hl 0 rfl) ?_
  refine lv_if_ge (tgt := 12) hx hb dX1_askedOpen_7 (by decide) (fun c_3 => ?_) (fun c_3 => ?_)
  · have hw := hw.1 c_3
    refine lv_aload_n hx hb dX1_askedOpen_12 rfl (lv_at hl 1 rfl) ?_
    refine x_callV (rest := []) (ci := 5) (q := (RX1, TX1, 55)) F C (ctX1_setOpen hE hw) (cwV 0 hts (lw_V q1126 q1128 qs47 q71 q1129) rfl rfl rfl (by decide +kernel) ⟨Nat.le_of_ble_eq_true rfl, Nat.le_of_ble_eq_true rfl⟩) rfl rfl rfl hl.1 rfl (Nat.le_of_ble_eq_true rfl) dX1_askedOpen_13 ⟨Nat.zero_le _, Nat.zero_le _⟩ (fun s_4 H locs hw C => ?_)
    refine lv_aload_n hx hb dX1_askedOpen_16 rfl (lv_at hl 1 rfl) ?_
    refine x1_g36 F C dX1_askedOpen_17 ?_
    refine lv_bipush (v := 8) hx hb dX1_askedOpen_20 (by decide) ?_
    refine lv_icmp_le (tgt := 28) hx hb dX1_askedOpen_22 (by decide) (fun c_6 => ?_) (fun c_6 => ?_)
    · have hw := hw.1 c_6
      refine lv_aload_n hx hb dX1_askedOpen_28 rfl (lv_at hl 1 rfl) ?_
      refine lv_iload_n hx hb dX1_askedOpen_29 rfl (lv_at hl 2 rfl) ?_
      refine x_callV (rest := []) (ci := 5) (q := (RX1, TX1, 55)) F C (ctX1_setWays hE hw) (cwV 1 hts (lw_V q1201 q1203 qs62 q71 q1204) rfl rfl rfl (by decide +kernel) ⟨Nat.le_of_ble_eq_true rfl, Nat.le_of_ble_eq_true rfl⟩) rfl rfl rfl hl.1 rfl (Nat.le_of_ble_eq_true rfl) dX1_askedOpen_30 ⟨Nat.zero_le _, Nat.zero_le _⟩ (fun s_7 H locs hw C => ?_)
      refine lv_iconst (v := 0) hx hb dX1_askedOpen_33 (by decide) ?_
      exact x_iret F C hw dX1_askedOpen_34
    · have hw := hw.2 c_6
      refine lv_bipush (v := (-6)) hx hb dX1_askedOpen_25 (by decide) ?_
      exact x_iret F C hw dX1_askedOpen_27
  · have hw := hw.2 c_3
    refine lv_iload_n hx hb dX1_askedOpen_10 rfl (lv_at hl 0 rfl) ?_
    exact x_iret F C hw dX1_askedOpen_11

abbrev rmX1_isBelow : Room := { frames := 0, cells := 0, slots := 0, locals := 0 }
def wX1_isBelow_127  (post : Int32 → CS → Prop)  (x16 : Int32) (y0 : Int32) (st : CS) : Prop := ((y0 = x16 → (post 0 st)) ∧ (¬ y0 = x16 → (post 1 st)))
def wX1_isBelow_115  (post : Int32 → CS → Prop)  (x16 : Int32) (x21 : Int64) (st : CS) : Prop := ((x21 = 0 → (wX1_isBelow_127  post  x16 1 st)) ∧ (¬ x21 = 0 → (wX1_isBelow_127  post  x16 0 st)))
def wX1_isBelow_97  (post : Int32 → CS → Prop)  (x16 : Int32) (x21 : Int64) (x23 : Int64) (st : CS) : Prop := ((x21 = 0 → ((x23 = 0 → (post 0 st)) ∧ (¬ x23 = 0 → (wX1_isBelow_115  post  x16 x21 st)))) ∧ (¬ x21 = 0 → (wX1_isBelow_115  post  x16 x21 st)))
def wX1_isBelow_164  (post : Int32 → CS → Prop) (k17 : Int64 → Int64 → Int64 → Int64 → Int32 → CS → Prop) (x8 : Int64) (x10 : Int64) (x12 : Int64) (x14 : Int64) (y0 : Int32) (st : CS) : Prop := (k17 x8 x10 x12 x14 y0 st)
def wX1_isBelow_52  (post : Int32 → CS → Prop)  (x16 : Int32) (y0 : Int32) (st : CS) : Prop := ((y0 = x16 → (post 0 st)) ∧ (¬ y0 = x16 → (post 1 st)))
def wX1_isBelow_17  (post : Int32 → CS → Prop)  : Nat → Int64 → Int64 → Int64 → Int64 → Int32 → CS → Prop
  | 0 => fun _ _ _ _ _ _ => False
  | n + 1 => fun x8 x10 x12 x14 x16 st => (¬ x10 = 0 ∧ (∀ x17_2 : Int64, x17_2 = (x8 / x10) → (¬ x14 = 0 ∧ (∀ x19_4 : Int64, x19_4 = (x12 / x14) → ((x17_2 = x19_4 → (∀ x21_6 : Int64, x21_6 = (x8 - (x17_2 * x10)) → (∀ x23_7 : Int64, x23_7 = (x12 - (x19_4 * x14)) → ((x21_6 = 0 → (wX1_isBelow_97  post  x16 x21_6 x23_7 st)) ∧ (¬ x21_6 = 0 → ((x23_7 = 0 → (wX1_isBelow_97  post  x16 x21_6 x23_7 st)) ∧ (¬ x23_7 = 0 → ((x16 = 0 → (wX1_isBelow_164  post (wX1_isBelow_17  post  n) x10 x21_6 x14 x23_7 1 st)) ∧ (¬ x16 = 0 → (wX1_isBelow_164  post (wX1_isBelow_17  post  n) x10 x21_6 x14 x23_7 0 st)))))))))) ∧ (¬ x17_2 = x19_4 → ((x19_4 ≤ x17_2 → (wX1_isBelow_52  post  x16 0 st)) ∧ (¬ x19_4 ≤ x17_2 → (wX1_isBelow_52  post  x16 1 st)))))))))
def wpX1_isBelow  (post : Int32 → CS → Prop) (s0 : CS) (p0 : Int64) (p1 : Int64) (p2 : Int64) (p3 : Int64) : Prop := (∃ fu : Nat, wX1_isBelow_17  post  fu p0 p1 p2 p3 0 s0)
set_option maxHeartbeats 4000000 in
theorem kX1_isBelow_127  {post : Int32 → CS → Prop}  (F : Fx p s m args meth c cX1_isBelow 25 RX1 (some .boolean) D d E A) : ∀ (x16 : Int32) (y0 : Int32) (st : CS) (H : Heap) (locs : List Loc) (ls : Array Slot), wX1_isBelow_127  post  x16 y0 st → Cx D wf A s st H locs → lv_has ls 25 [(16, .int x16)] → W p l e (headSpec (ws_ yX1_isBelow cX1_isBelow 25 (some .boolean)) rmX1_isBelow).room s m args below meth c H locs 0 0 (QI below D d E wf A args s 0 0 post) (F0 m 127 ls [.int y0]) := by
  obtain ⟨hx, hb, hr, hml, hown, hts, hlk, hA, hK, hE⟩ := id F
  intro x16 y0 st H locs ls hw C hl
  unfold wX1_isBelow_127 at hw
  refine lv_iload hx hb dX1_isBelow_127 (lv_at hl 0 rfl) ?_
  refine lv_icmp_eq (tgt := 136) hx hb dX1_isBelow_129 (by decide) (fun c_11 => ?_) (fun c_11 => ?_)
  · have hw := hw.1 c_11
    refine lv_iconst (v := 0) hx hb dX1_isBelow_136 (by decide) ?_
    exact x_zret F C zb_0 hw dX1_isBelow_137
  · have hw := hw.2 c_11
    refine lv_iconst (v := 1) hx hb dX1_isBelow_132 (by decide) ?_
    refine lv_goto (tgt := 137) hx hb dX1_isBelow_133 (by decide) ?_
    exact x_zret F C zb_1 hw dX1_isBelow_137
set_option maxHeartbeats 4000000 in
theorem kX1_isBelow_115  {post : Int32 → CS → Prop}  (F : Fx p s m args meth c cX1_isBelow 25 RX1 (some .boolean) D d E A) : ∀ (x16 : Int32) (x21 : Int64) (st : CS) (H : Heap) (locs : List Loc) (ls : Array Slot), wX1_isBelow_115  post  x16 x21 st → Cx D wf A s st H locs → lv_has ls 25 [(16, .int x16), (21, .long x21)] → W p l e (headSpec (ws_ yX1_isBelow cX1_isBelow 25 (some .boolean)) rmX1_isBelow).room s m args below meth c H locs 0 0 (QI below D d E wf A args s 0 0 post) (F0 m 115 ls []) := by
  obtain ⟨hx, hb, hr, hml, hown, hts, hlk, hA, hK, hE⟩ := id F
  intro x16 x21 st H locs ls hw C hl
  unfold wX1_isBelow_115 at hw
  refine lv_lload hx hb dX1_isBelow_115 (lv_at hl 1 rfl) ?_
  refine lv_lconst (v := 0) hx hb dX1_isBelow_117 (by decide) ?_
  refine W.lcmp hx hb dX1_isBelow_118 ?_
  refine lv_if_ne (tgt := 126) hx hb dX1_isBelow_119 (by decide) (fun c_10 => ?_) (fun c_10 => ?_)
  · have hw := hw.2 (fun h9 => c_10 ((lg_cmp_eq _ _).mpr h9))
    refine lv_iconst (v := 0) hx hb dX1_isBelow_126 (by decide) ?_
    exact kX1_isBelow_127  F  x16 0 st _ _ _ hw C (lv_sub hl [0] rfl)
  · have hw := hw.1 ((lg_cmp_eq _ _).mp c_10)
    refine lv_iconst (v := 1) hx hb dX1_isBelow_122 (by decide) ?_
    refine lv_goto (tgt := 127) hx hb dX1_isBelow_123 (by decide) ?_
    exact kX1_isBelow_127  F  x16 1 st _ _ _ hw C (lv_sub hl [0] rfl)
set_option maxHeartbeats 4000000 in
theorem kX1_isBelow_97  {post : Int32 → CS → Prop}  (F : Fx p s m args meth c cX1_isBelow 25 RX1 (some .boolean) D d E A) : ∀ (x16 : Int32) (x21 : Int64) (x23 : Int64) (st : CS) (H : Heap) (locs : List Loc) (ls : Array Slot), wX1_isBelow_97  post  x16 x21 x23 st → Cx D wf A s st H locs → lv_has ls 25 [(16, .int x16), (21, .long x21), (23, .long x23)] → W p l e (headSpec (ws_ yX1_isBelow cX1_isBelow 25 (some .boolean)) rmX1_isBelow).room s m args below meth c H locs 0 0 (QI below D d E wf A args s 0 0 post) (F0 m 97 ls []) := by
  obtain ⟨hx, hb, hr, hml, hown, hts, hlk, hA, hK, hE⟩ := id F
  intro x16 x21 x23 st H locs ls hw C hl
  unfold wX1_isBelow_97 at hw
  refine lv_lload hx hb dX1_isBelow_97 (lv_at hl 1 rfl) ?_
  refine lv_lconst (v := 0) hx hb dX1_isBelow_99 (by decide) ?_
  refine W.lcmp hx hb dX1_isBelow_100 ?_
  refine lv_if_ne (tgt := 115) hx hb dX1_isBelow_101 (by decide) (fun c_9 => ?_) (fun c_9 => ?_)
  · have hw := hw.2 (fun h9 => c_9 ((lg_cmp_eq _ _).mpr h9))
    exact kX1_isBelow_115  F  x16 x21 st _ _ _ hw C (lv_sub hl [0, 1] rfl)
  · have hw := hw.1 ((lg_cmp_eq _ _).mp c_9)
    refine lv_lload hx hb dX1_isBelow_104 (lv_at hl 2 rfl) ?_
    refine lv_lconst (v := 0) hx hb dX1_isBelow_106 (by decide) ?_
    refine W.lcmp hx hb dX1_isBelow_107 ?_
    refine lv_if_ne (tgt := 115) hx hb dX1_isBelow_108 (by decide) (fun c_12 => ?_) (fun c_12 => ?_)
    · have hw := hw.2 (fun h9 => c_12 ((lg_cmp_eq _ _).mpr h9))
      exact kX1_isBelow_115  F  x16 x21 st _ _ _ hw C (lv_sub hl [0, 1] rfl)
    · have hw := hw.1 ((lg_cmp_eq _ _).mp c_12)
      refine lv_iconst (v := 0) hx hb dX1_isBelow_111 (by decide) ?_
      refine lv_goto (tgt := 137) hx hb dX1_isBelow_112 (by decide) ?_
      exact x_zret F C zb_0 hw dX1_isBelow_137
set_option maxHeartbeats 4000000 in
theorem kX1_isBelow_164  {post : Int32 → CS → Prop} {k17 : Int64 → Int64 → Int64 → Int64 → Int32 → CS → Prop} (F : Fx p s m args meth c cX1_isBelow 25 RX1 (some .boolean) D d E A) (hk17 : ∀ (x8 : Int64) (x10 : Int64) (x12 : Int64) (x14 : Int64) (x16 : Int32) (st : CS) (H : Heap) (locs : List Loc) (ls : Array Slot), k17 x8 x10 x12 x14 x16 st → Cx D wf A s st H locs → lv_has ls 25 [(8, .long x8), (10, .long x10), (12, .long x12), (14, .long x14), (16, .int x16)] → W p l e (headSpec (ws_ yX1_isBelow cX1_isBelow 25 (some .boolean)) rmX1_isBelow).room s m args below meth c H locs 0 0 (QI below D d E wf A args s 0 0 post) (F0 m 17 ls [])) : ∀ (x8 : Int64) (x10 : Int64) (x12 : Int64) (x14 : Int64) (y0 : Int32) (st : CS) (H : Heap) (locs : List Loc) (ls : Array Slot), wX1_isBelow_164  post k17 x8 x10 x12 x14 y0 st → Cx D wf A s st H locs → lv_has ls 25 [(8, .long x8), (10, .long x10), (12, .long x12), (14, .long x14)] → W p l e (headSpec (ws_ yX1_isBelow cX1_isBelow 25 (some .boolean)) rmX1_isBelow).room s m args below meth c H locs 0 0 (QI below D d E wf A args s 0 0 post) (F0 m 164 ls [.int y0]) := by
  obtain ⟨hx, hb, hr, hml, hown, hts, hlk, hA, hK, hE⟩ := id F
  intro x8 x10 x12 x14 y0 st H locs ls hw C hl
  unfold wX1_isBelow_164 at hw
  refine lv_istore (lv' := [(16, .int y0), (8, .long x8), (10, .long x10), (12, .long x12), (14, .long x14)]) hx hb dX1_isBelow_164 hl (by decide) rfl (fun ls hl => ?_)
  refine lv_goto (tgt := 17) hx hb dX1_isBelow_166 (by decide) ?_
  exact hk17 x8 x10 x12 x14 y0 st _ _ _ hw C (lv_sub hl [1, 2, 3, 4, 0] rfl)
set_option maxHeartbeats 4000000 in
theorem kX1_isBelow_52  {post : Int32 → CS → Prop}  (F : Fx p s m args meth c cX1_isBelow 25 RX1 (some .boolean) D d E A) : ∀ (x16 : Int32) (y0 : Int32) (st : CS) (H : Heap) (locs : List Loc) (ls : Array Slot), wX1_isBelow_52  post  x16 y0 st → Cx D wf A s st H locs → lv_has ls 25 [(16, .int x16)] → W p l e (headSpec (ws_ yX1_isBelow cX1_isBelow 25 (some .boolean)) rmX1_isBelow).room s m args below meth c H locs 0 0 (QI below D d E wf A args s 0 0 post) (F0 m 52 ls [.int y0]) := by
  obtain ⟨hx, hb, hr, hml, hown, hts, hlk, hA, hK, hE⟩ := id F
  intro x16 y0 st H locs ls hw C hl
  unfold wX1_isBelow_52 at hw
  refine lv_iload hx hb dX1_isBelow_52 (lv_at hl 0 rfl) ?_
  refine lv_icmp_eq (tgt := 61) hx hb dX1_isBelow_54 (by decide) (fun c_16 => ?_) (fun c_16 => ?_)
  · have hw := hw.1 c_16
    refine lv_iconst (v := 0) hx hb dX1_isBelow_61 (by decide) ?_
    exact x_zret F C zb_0 hw dX1_isBelow_62
  · have hw := hw.2 c_16
    refine lv_iconst (v := 1) hx hb dX1_isBelow_57 (by decide) ?_
    refine lv_goto (tgt := 62) hx hb dX1_isBelow_58 (by decide) ?_
    exact x_zret F C zb_1 hw dX1_isBelow_62
set_option maxHeartbeats 4000000 in
theorem kX1_isBelow_17  {post : Int32 → CS → Prop}  (F : Fx p s m args meth c cX1_isBelow 25 RX1 (some .boolean) D d E A) : ∀ (fu : Nat) (x8 : Int64) (x10 : Int64) (x12 : Int64) (x14 : Int64) (x16 : Int32) (st : CS) (H : Heap) (locs : List Loc) (ls : Array Slot), wX1_isBelow_17  post  fu x8 x10 x12 x14 x16 st → Cx D wf A s st H locs → lv_has ls 25 [(8, .long x8), (10, .long x10), (12, .long x12), (14, .long x14), (16, .int x16)] → W p l e (headSpec (ws_ yX1_isBelow cX1_isBelow 25 (some .boolean)) rmX1_isBelow).room s m args below meth c H locs 0 0 (QI below D d E wf A args s 0 0 post) (F0 m 17 ls []) := by
  obtain ⟨hx, hb, hr, hml, hown, hts, hlk, hA, hK, hE⟩ := id F
  intro fu
  induction fu with
  | zero =>
    intro x8 x10 x12 x14 x16 st H locs ls hw
    exact hw.elim
  | succ n ih =>
    have hk17 := ih
    intro x8 x10 x12 x14 x16 st H locs ls hw C hl
    unfold wX1_isBelow_17 at hw
    refine lv_lload hx hb dX1_isBelow_17 (lv_at hl 0 rfl) ?_
    refine lv_lload hx hb dX1_isBelow_19 (lv_at hl 1 rfl) ?_
    obtain ⟨h_1, hw⟩ := hw
    refine lv_ldiv hx hb dX1_isBelow_21 h_1 ?_
    refine lv_topl (fun x17_2 ex17_2 => ?_)
    have hw := hw x17_2 ex17_2
    refine lv_lstore (lv' := [(17, .long x17_2), (8, .long x8), (10, .long x10), (12, .long x12), (14, .long x14), (16, .int x16)]) hx hb dX1_isBelow_22 hl (by decide) rfl (fun ls hl => ?_)
    refine lv_lload hx hb dX1_isBelow_24 (lv_at hl 3 rfl) ?_
    refine lv_lload hx hb dX1_isBelow_26 (lv_at hl 4 rfl) ?_
    obtain ⟨h_3, hw⟩ := hw
    refine lv_ldiv hx hb dX1_isBelow_28 h_3 ?_
    refine lv_topl (fun x19_4 ex19_4 => ?_)
    have hw := hw x19_4 ex19_4
    refine lv_lstore (lv' := [(19, .long x19_4), (17, .long x17_2), (8, .long x8), (10, .long x10), (12, .long x12), (14, .long x14), (16, .int x16)]) hx hb dX1_isBelow_29 hl (by decide) rfl (fun ls hl => ?_)
    refine lv_lload hx hb dX1_isBelow_31 (lv_at hl 1 rfl) ?_
    refine lv_lload hx hb dX1_isBelow_33 (lv_at hl 0 rfl) ?_
    refine W.lcmp hx hb dX1_isBelow_35 ?_
    refine lv_if_eq (tgt := 63) hx hb dX1_isBelow_36 (by decide) (fun c_5 => ?_) (fun c_5 => ?_)
    · have hw := hw.1 ((lg_cmp_eq _ _).mp c_5)
      refine lv_lload hx hb dX1_isBelow_63 (lv_at hl 2 rfl) ?_
      refine lv_lload hx hb dX1_isBelow_65 (lv_at hl 1 rfl) ?_
      refine lv_lload hx hb dX1_isBelow_67 (lv_at hl 3 rfl) ?_
      refine lv_lmul hx hb dX1_isBelow_69 ?_
      refine lv_lsub hx hb dX1_isBelow_70 ?_
      refine lv_topl (fun x21_6 ex21_6 => ?_)
      have hw := hw x21_6 ex21_6
      refine lv_lstore (lv' := [(21, .long x21_6), (19, .long x19_4), (17, .long x17_2), (8, .long x8), (10, .long x10), (12, .long x12), (14, .long x14), (16, .int x16)]) hx hb dX1_isBelow_71 hl (by decide) rfl (fun ls hl => ?_)
      refine lv_lload hx hb dX1_isBelow_73 (lv_at hl 5 rfl) ?_
      refine lv_lload hx hb dX1_isBelow_75 (lv_at hl 1 rfl) ?_
      refine lv_lload hx hb dX1_isBelow_77 (lv_at hl 6 rfl) ?_
      refine lv_lmul hx hb dX1_isBelow_79 ?_
      refine lv_lsub hx hb dX1_isBelow_80 ?_
      refine lv_topl (fun x23_7 ex23_7 => ?_)
      have hw := hw x23_7 ex23_7
      refine lv_lstore (lv' := [(23, .long x23_7), (21, .long x21_6), (19, .long x19_4), (17, .long x17_2), (8, .long x8), (10, .long x10), (12, .long x12), (14, .long x14), (16, .int x16)]) hx hb dX1_isBelow_81 hl (by decide) rfl (fun ls hl => ?_)
      refine lv_lload hx hb dX1_isBelow_83 (lv_at hl 1 rfl) ?_
      refine lv_lconst (v := 0) hx hb dX1_isBelow_85 (by decide) ?_
      refine W.lcmp hx hb dX1_isBelow_86 ?_
      refine lv_if_eq (tgt := 97) hx hb dX1_isBelow_87 (by decide) (fun c_8 => ?_) (fun c_8 => ?_)
      · have hw := hw.1 ((lg_cmp_eq _ _).mp c_8)
        exact kX1_isBelow_97  F  x16 x21_6 x23_7 st _ _ _ hw C (lv_sub hl [8, 1, 0] rfl)
      · have hw := hw.2 (fun h9 => c_8 ((lg_cmp_eq _ _).mpr h9))
        refine lv_lload hx hb dX1_isBelow_90 (lv_at hl 0 rfl) ?_
        refine lv_lconst (v := 0) hx hb dX1_isBelow_92 (by decide) ?_
        refine W.lcmp hx hb dX1_isBelow_93 ?_
        refine lv_if_ne (tgt := 138) hx hb dX1_isBelow_94 (by decide) (fun c_13 => ?_) (fun c_13 => ?_)
        · have hw := hw.2 (fun h9 => c_13 ((lg_cmp_eq _ _).mpr h9))
          refine lv_lload hx hb dX1_isBelow_138 (lv_at hl 5 rfl) ?_
          refine lv_lstore (lv' := [(8, .long x10), (23, .long x23_7), (21, .long x21_6), (19, .long x19_4), (17, .long x17_2), (10, .long x10), (12, .long x12), (14, .long x14), (16, .int x16)]) hx hb dX1_isBelow_140 hl (by decide) rfl (fun ls hl => ?_)
          refine lv_lload hx hb dX1_isBelow_142 (lv_at hl 2 rfl) ?_
          refine lv_lstore (lv' := [(10, .long x21_6), (8, .long x10), (23, .long x23_7), (21, .long x21_6), (19, .long x19_4), (17, .long x17_2), (12, .long x12), (14, .long x14), (16, .int x16)]) hx hb dX1_isBelow_144 hl (by decide) rfl (fun ls hl => ?_)
          refine lv_lload hx hb dX1_isBelow_146 (lv_at hl 7 rfl) ?_
          refine lv_lstore (lv' := [(12, .long x14), (10, .long x21_6), (8, .long x10), (23, .long x23_7), (21, .long x21_6), (19, .long x19_4), (17, .long x17_2), (14, .long x14), (16, .int x16)]) hx hb dX1_isBelow_148 hl (by decide) rfl (fun ls hl => ?_)
          refine lv_lload hx hb dX1_isBelow_150 (lv_at hl 3 rfl) ?_
          refine lv_lstore (lv' := [(14, .long x23_7), (12, .long x14), (10, .long x21_6), (8, .long x10), (23, .long x23_7), (21, .long x21_6), (19, .long x19_4), (17, .long x17_2), (16, .int x16)]) hx hb dX1_isBelow_152 hl (by decide) rfl (fun ls hl => ?_)
          refine lv_iload hx hb dX1_isBelow_154 (lv_at hl 8 rfl) ?_
          refine lv_if_ne (tgt := 163) hx hb dX1_isBelow_156 (by decide) (fun c_14 => ?_) (fun c_14 => ?_)
          · have hw := hw.2 c_14
            refine lv_iconst (v := 0) hx hb dX1_isBelow_163 (by decide) ?_
            exact kX1_isBelow_164  F hk17 x10 x21_6 x14 x23_7 0 st _ _ _ hw C (lv_sub hl [3, 2, 1, 0] rfl)
          · have hw := hw.1 c_14
            refine lv_iconst (v := 1) hx hb dX1_isBelow_159 (by decide) ?_
            refine lv_goto (tgt := 164) hx hb dX1_isBelow_160 (by decide) ?_
            exact kX1_isBelow_164  F hk17 x10 x21_6 x14 x23_7 1 st _ _ _ hw C (lv_sub hl [3, 2, 1, 0] rfl)
        · have hw := hw.1 ((lg_cmp_eq _ _).mp c_13)
          exact kX1_isBelow_97  F  x16 x21_6 x23_7 st _ _ _ hw C (lv_sub hl [8, 1, 0] rfl)
    · have hw := hw.2 (fun h9 => c_5 ((lg_cmp_eq _ _).mpr h9))
      refine lv_lload hx hb dX1_isBelow_39 (lv_at hl 1 rfl) ?_
      refine lv_lload hx hb dX1_isBelow_41 (lv_at hl 0 rfl) ?_
      refine W.lcmp hx hb dX1_isBelow_43 ?_
      refine lv_if_ge (tgt := 51) hx hb dX1_isBelow_44 (by decide) (fun c_15 => ?_) (fun c_15 => ?_)
      · have hw := hw.1 ((lg_cmp_ge _ _).mp c_15)
        refine lv_iconst (v := 0) hx hb dX1_isBelow_51 (by decide) ?_
        exact kX1_isBelow_52  F  x16 0 st _ _ _ hw C (lv_sub hl [6] rfl)
      · have hw := hw.2 (fun h9 => c_15 ((lg_cmp_ge _ _).mpr h9))
        refine lv_iconst (v := 1) hx hb dX1_isBelow_47 (by decide) ?_
        refine lv_goto (tgt := 52) hx hb dX1_isBelow_48 (by decide) ?_
        exact kX1_isBelow_52  F  x16 1 st _ _ _ hw C (lv_sub hl [6] rfl)
theorem ctX1_isBelow (hE : Em E)  {post : Int32 → CS → Prop} {s0 : CS} {p0 p1 p2 p3 : Int64} (hw : wpX1_isBelow  post s0 p0 p1 p2 p3) : CtI l yX1_isBelow (ws_ yX1_isBelow cX1_isBelow 25 (some .boolean)) rmX1_isBelow D d E wf 0 0 [.long p0, .long p1, .long p2, .long p3] s0 post := by
  refine CtI.of hE (by decide) rfl (Nat.le_of_ble_eq_true rfl) ?_
  intro p e s m below meth c A ls F C hl
  have hl : lv_has ls 25 [(0, .long p0), (2, .long p1), (4, .long p2), (6, .long p3)] := hl
  unfold wpX1_isBelow at hw
  obtain ⟨hx, hb, hr, hml, hown, hts, hlk, hA, hK, -⟩ := id F
  refine lv_lload_n hx hb dX1_isBelow_0 rfl (lv_at hl 0 rfl) ?_
  refine lv_lstore (lv' := [(8, .long p0), (0, .long p0), (2, .long p1), (4, .long p2), (6, .long p3)]) hx hb dX1_isBelow_1 hl (by decide) rfl (fun ls hl => ?_)
  refine lv_lload_n hx hb dX1_isBelow_3 rfl (lv_at hl 2 rfl) ?_
  refine lv_lstore (lv' := [(10, .long p1), (8, .long p0), (0, .long p0), (2, .long p1), (4, .long p2), (6, .long p3)]) hx hb dX1_isBelow_4 hl (by decide) rfl (fun ls hl => ?_)
  refine lv_lload hx hb dX1_isBelow_6 (lv_at hl 4 rfl) ?_
  refine lv_lstore (lv' := [(12, .long p2), (10, .long p1), (8, .long p0), (0, .long p0), (2, .long p1), (4, .long p2), (6, .long p3)]) hx hb dX1_isBelow_8 hl (by decide) rfl (fun ls hl => ?_)
  refine lv_lload hx hb dX1_isBelow_10 (lv_at hl 6 rfl) ?_
  refine lv_lstore (lv' := [(14, .long p3), (12, .long p2), (10, .long p1), (8, .long p0), (0, .long p0), (2, .long p1), (4, .long p2), (6, .long p3)]) hx hb dX1_isBelow_12 hl (by decide) rfl (fun ls hl => ?_)
  refine lv_iconst (v := 0) hx hb dX1_isBelow_14 (by decide) ?_
  refine lv_istore (lv' := [(16, .int 0), (14, .long p3), (12, .long p2), (10, .long p1), (8, .long p0), (0, .long p0), (2, .long p1), (4, .long p2), (6, .long p3)]) hx hb dX1_isBelow_15 hl (by decide) rfl (fun ls hl => ?_)
  obtain ⟨fu, hw⟩ := hw
  exact kX1_isBelow_17  F  fu p0 p1 p2 p3 0 s0 _ _ _ hw C (lv_sub hl [4, 3, 2, 1, 0] rfl)

abbrev rmX1_wayOf : Room := { frames := 1, cells := 0, slots := 0, locals := 44 }
def wX1_wayOf_137  (post : Int32 → CS → Prop) (k7 : Int32 → Int32 → Int32 → Int32 → Int32 → Int32 → CS → Prop) (x1 : Int32) (x2 : Int32) (x3 : Int32) (x4 : Int32) (x5 : Int32) (x6 : Int32) (st : CS) : Prop := (∀ x6_3 : Int32, x6_3 = x6 + 1 → (k7 x1 x2 x3 x4 x5 x6_3 st))
def wX1_wayOf_135  (post : Int32 → CS → Prop) (k7 : Int32 → Int32 → Int32 → Int32 → Int32 → Int32 → CS → Prop) (x1 : Int32) (x2 : Int32) (x3 : Int32) (x4 : Int32) (x6 : Int32) (y0 : Int32) (st : CS) : Prop := (wX1_wayOf_137  post k7 x1 x2 x3 x4 y0 x6 st)
def wX1_wayOf_121  (post : Int32 → CS → Prop) (k7 : Int32 → Int32 → Int32 → Int32 → Int32 → Int32 → CS → Prop) (x1 : Int32) (x2 : Int32) (x3 : Int32) (x4 : Int32) (x5 : Int32) (x6 : Int32) (x7 : Int32) (y0 : Int32) (st : CS) : Prop := ((y0 = 0 → (wX1_wayOf_135  post k7 x1 x2 x3 x4 x6 x5 st)) ∧ (¬ y0 = 0 → (wX1_wayOf_135  post k7 x1 x2 x3 x4 x6 x7 st)))
def wX1_wayOf_116  (post : Int32 → CS → Prop) (k7 : Int32 → Int32 → Int32 → Int32 → Int32 → Int32 → CS → Prop) (x1 : Int32) (x2 : Int32) (x3 : Int32) (x4 : Int32) (x5 : Int32) (x6 : Int32) (x7 : Int32) (st : CS) : Prop := (wX1_wayOf_121  post k7 x1 x2 x3 x4 x5 x6 x7 1 st)
def wX1_wayOf_120  (post : Int32 → CS → Prop) (k7 : Int32 → Int32 → Int32 → Int32 → Int32 → Int32 → CS → Prop) (x1 : Int32) (x2 : Int32) (x3 : Int32) (x4 : Int32) (x5 : Int32) (x6 : Int32) (x7 : Int32) (st : CS) : Prop := (wX1_wayOf_121  post k7 x1 x2 x3 x4 x5 x6 x7 0 st)
def wX1_wayOf_7  (post : Int32 → CS → Prop)  : Nat → Int32 → Int32 → Int32 → Int32 → Int32 → Int32 → CS → Prop
  | 0 => fun _ _ _ _ _ _ _ => False
  | n + 1 => fun x1 x2 x3 x4 x5 x6 st => (((1 <<< ((sI st 36) &&& 31)) ≤ x6 → (post x5 st)) ∧ (¬ (1 <<< ((sI st 36) &&& 31)) ≤ x6 → (((x6 &&& x3) = x4 → (∀ x7_4 : Int32, x7_4 = ((25 * x6) + x1) → ((x5 < 0 → (wX1_wayOf_116  post (wX1_wayOf_7  post  n) x1 x2 x3 x4 x5 x6 x7_4 st)) ∧ (¬ x5 < 0 → ((x2 = 0 → (vp_in x7_4 6400 ∧ (vp_in x7_4 6400 ∧ (vp_in x5 6400 ∧ (vp_in x5 6400 ∧ (wpX1_isBelow (fun r_13 s_12 => ((r_13 = 0 → (wX1_wayOf_120  post (wX1_wayOf_7  post  n) x1 x2 x3 x4 x5 x6 x7_4 s_12)) ∧ (¬ r_13 = 0 → (wX1_wayOf_116  post (wX1_wayOf_7  post  n) x1 x2 x3 x4 x5 x6 x7_4 s_12)))) st (sM st 46 x7_4.toNatClampNeg) (sM st 47 x7_4.toNatClampNeg) (sM st 46 x5.toNatClampNeg) (sM st 47 x5.toNatClampNeg))))))) ∧ (¬ x2 = 0 → (vp_in x5 6400 ∧ (vp_in x5 6400 ∧ (vp_in x7_4 6400 ∧ (vp_in x7_4 6400 ∧ (wpX1_isBelow (fun r_20 s_19 => ((r_20 = 0 → (wX1_wayOf_120  post (wX1_wayOf_7  post  n) x1 x2 x3 x4 x5 x6 x7_4 s_19)) ∧ (¬ r_20 = 0 → (wX1_wayOf_116  post (wX1_wayOf_7  post  n) x1 x2 x3 x4 x5 x6 x7_4 s_19)))) st (sM st 46 x5.toNatClampNeg) (sM st 47 x5.toNatClampNeg) (sM st 46 x7_4.toNatClampNeg) (sM st 47 x7_4.toNatClampNeg)))))))))))) ∧ (¬ (x6 &&& x3) = x4 → (wX1_wayOf_137  post (wX1_wayOf_7  post  n) x1 x2 x3 x4 x5 x6 st)))))
def wpX1_wayOf  (post : Int32 → CS → Prop) (s0 : CS) (p0 : Int32) (p1 : Int32) (p2 : Int32) (p3 : Int32) : Prop := (∃ fu : Nat, wX1_wayOf_7  post  fu p0 p1 p2 p3 (-9) 0 s0)
set_option maxHeartbeats 4000000 in
theorem kX1_wayOf_137  {post : Int32 → CS → Prop} {k7 : Int32 → Int32 → Int32 → Int32 → Int32 → Int32 → CS → Prop} (F : Fx p s m args meth c cX1_wayOf 9 RX1 (some .int) D d E A) (hk7 : ∀ (x1 : Int32) (x2 : Int32) (x3 : Int32) (x4 : Int32) (x5 : Int32) (x6 : Int32) (st : CS) (H : Heap) (locs : List Loc) (ls : Array Slot), k7 x1 x2 x3 x4 x5 x6 st → Cx D (wM o ad d) A s st H locs → lv_has ls 9 [(0, .ref o), (1, .int x1), (2, .int x2), (3, .int x3), (4, .int x4), (5, .int x5), (6, .int x6)] → W p l e (headSpec (ws_ yX1_wayOf cX1_wayOf 9 (some .int)) rmX1_wayOf).room s m args below meth c H locs 0 0 (QI below D d E (wM o ad d) A args s 0 0 post) (F0 m 7 ls [])) : ∀ (x1 : Int32) (x2 : Int32) (x3 : Int32) (x4 : Int32) (x5 : Int32) (x6 : Int32) (st : CS) (H : Heap) (locs : List Loc) (ls : Array Slot), wX1_wayOf_137  post k7 x1 x2 x3 x4 x5 x6 st → Cx D (wM o ad d) A s st H locs → lv_has ls 9 [(0, .ref o), (1, .int x1), (2, .int x2), (3, .int x3), (4, .int x4), (5, .int x5), (6, .int x6)] → W p l e (headSpec (ws_ yX1_wayOf cX1_wayOf 9 (some .int)) rmX1_wayOf).room s m args below meth c H locs 0 0 (QI below D d E (wM o ad d) A args s 0 0 post) (F0 m 137 ls []) := by
  obtain ⟨hx, hb, hr, hml, hown, hts, hlk, hA, hK, hE⟩ := id F
  intro x1 x2 x3 x4 x5 x6 st H locs ls hw C hl
  unfold wX1_wayOf_137 at hw
  obtain ⟨x6_3, ex6_3⟩ : ∃ y : Int32, y = x6 + 1 := ⟨_, rfl⟩
  have hw := hw x6_3 ex6_3
  refine lv_iinc (v := x6_3) (lv' := [(6, .int x6_3), (0, .ref o), (1, .int x1), (2, .int x2), (3, .int x3), (4, .int x4), (5, .int x5)]) hx hb dX1_wayOf_137 hl (k := 6) rfl (by rw [ex6_3]; rfl) (by decide) rfl (fun ls hl => ?_)
  refine lv_goto (tgt := 7) hx hb dX1_wayOf_140 (by decide) ?_
  exact hk7 x1 x2 x3 x4 x5 x6_3 st _ _ _ hw C (lv_sub hl [1, 2, 3, 4, 5, 6, 0] rfl)
set_option maxHeartbeats 4000000 in
theorem kX1_wayOf_135  {post : Int32 → CS → Prop} {k7 : Int32 → Int32 → Int32 → Int32 → Int32 → Int32 → CS → Prop} (F : Fx p s m args meth c cX1_wayOf 9 RX1 (some .int) D d E A) (hk7 : ∀ (x1 : Int32) (x2 : Int32) (x3 : Int32) (x4 : Int32) (x5 : Int32) (x6 : Int32) (st : CS) (H : Heap) (locs : List Loc) (ls : Array Slot), k7 x1 x2 x3 x4 x5 x6 st → Cx D (wM o ad d) A s st H locs → lv_has ls 9 [(0, .ref o), (1, .int x1), (2, .int x2), (3, .int x3), (4, .int x4), (5, .int x5), (6, .int x6)] → W p l e (headSpec (ws_ yX1_wayOf cX1_wayOf 9 (some .int)) rmX1_wayOf).room s m args below meth c H locs 0 0 (QI below D d E (wM o ad d) A args s 0 0 post) (F0 m 7 ls [])) : ∀ (x1 : Int32) (x2 : Int32) (x3 : Int32) (x4 : Int32) (x6 : Int32) (y0 : Int32) (st : CS) (H : Heap) (locs : List Loc) (ls : Array Slot), wX1_wayOf_135  post k7 x1 x2 x3 x4 x6 y0 st → Cx D (wM o ad d) A s st H locs → lv_has ls 9 [(0, .ref o), (1, .int x1), (2, .int x2), (3, .int x3), (4, .int x4), (6, .int x6)] → W p l e (headSpec (ws_ yX1_wayOf cX1_wayOf 9 (some .int)) rmX1_wayOf).room s m args below meth c H locs 0 0 (QI below D d E (wM o ad d) A args s 0 0 post) (F0 m 135 ls [.int y0]) := by
  obtain ⟨hx, hb, hr, hml, hown, hts, hlk, hA, hK, hE⟩ := id F
  intro x1 x2 x3 x4 x6 y0 st H locs ls hw C hl
  unfold wX1_wayOf_135 at hw
  refine lv_istore (lv' := [(5, .int y0), (0, .ref o), (1, .int x1), (2, .int x2), (3, .int x3), (4, .int x4), (6, .int x6)]) hx hb dX1_wayOf_135 hl (by decide) rfl (fun ls hl => ?_)
  exact kX1_wayOf_137  F hk7 x1 x2 x3 x4 y0 x6 st _ _ _ hw C (lv_sub hl [1, 2, 3, 4, 5, 0, 6] rfl)
set_option maxHeartbeats 4000000 in
theorem kX1_wayOf_121  {post : Int32 → CS → Prop} {k7 : Int32 → Int32 → Int32 → Int32 → Int32 → Int32 → CS → Prop} (F : Fx p s m args meth c cX1_wayOf 9 RX1 (some .int) D d E A) (hk7 : ∀ (x1 : Int32) (x2 : Int32) (x3 : Int32) (x4 : Int32) (x5 : Int32) (x6 : Int32) (st : CS) (H : Heap) (locs : List Loc) (ls : Array Slot), k7 x1 x2 x3 x4 x5 x6 st → Cx D (wM o ad d) A s st H locs → lv_has ls 9 [(0, .ref o), (1, .int x1), (2, .int x2), (3, .int x3), (4, .int x4), (5, .int x5), (6, .int x6)] → W p l e (headSpec (ws_ yX1_wayOf cX1_wayOf 9 (some .int)) rmX1_wayOf).room s m args below meth c H locs 0 0 (QI below D d E (wM o ad d) A args s 0 0 post) (F0 m 7 ls [])) : ∀ (x1 : Int32) (x2 : Int32) (x3 : Int32) (x4 : Int32) (x5 : Int32) (x6 : Int32) (x7 : Int32) (y0 : Int32) (st : CS) (H : Heap) (locs : List Loc) (ls : Array Slot), wX1_wayOf_121  post k7 x1 x2 x3 x4 x5 x6 x7 y0 st → Cx D (wM o ad d) A s st H locs → lv_has ls 9 [(0, .ref o), (1, .int x1), (2, .int x2), (3, .int x3), (4, .int x4), (5, .int x5), (6, .int x6), (7, .int x7)] → W p l e (headSpec (ws_ yX1_wayOf cX1_wayOf 9 (some .int)) rmX1_wayOf).room s m args below meth c H locs 0 0 (QI below D d E (wM o ad d) A args s 0 0 post) (F0 m 121 ls [.int y0]) := by
  obtain ⟨hx, hb, hr, hml, hown, hts, hlk, hA, hK, hE⟩ := id F
  intro x1 x2 x3 x4 x5 x6 x7 y0 st H locs ls hw C hl
  unfold wX1_wayOf_121 at hw
  refine lv_istore (lv' := [(8, .int y0), (0, .ref o), (1, .int x1), (2, .int x2), (3, .int x3), (4, .int x4), (5, .int x5), (6, .int x6), (7, .int x7)]) hx hb dX1_wayOf_121 hl (by decide) rfl (fun ls hl => ?_)
  refine lv_iload hx hb dX1_wayOf_123 (lv_at hl 0 rfl) ?_
  refine lv_if_eq (tgt := 133) hx hb dX1_wayOf_125 (by decide) (fun c_6 => ?_) (fun c_6 => ?_)
  · have hw := hw.1 c_6
    refine lv_iload hx hb dX1_wayOf_133 (lv_at hl 6 rfl) ?_
    exact kX1_wayOf_135  F hk7 x1 x2 x3 x4 x6 x5 st _ _ _ hw C (lv_sub hl [1, 2, 3, 4, 5, 7] rfl)
  · have hw := hw.2 c_6
    refine lv_iload hx hb dX1_wayOf_128 (lv_at hl 8 rfl) ?_
    refine lv_goto (tgt := 135) hx hb dX1_wayOf_130 (by decide) ?_
    exact kX1_wayOf_135  F hk7 x1 x2 x3 x4 x6 x7 st _ _ _ hw C (lv_sub hl [1, 2, 3, 4, 5, 7] rfl)
set_option maxHeartbeats 4000000 in
theorem kX1_wayOf_116  {post : Int32 → CS → Prop} {k7 : Int32 → Int32 → Int32 → Int32 → Int32 → Int32 → CS → Prop} (F : Fx p s m args meth c cX1_wayOf 9 RX1 (some .int) D d E A) (hk7 : ∀ (x1 : Int32) (x2 : Int32) (x3 : Int32) (x4 : Int32) (x5 : Int32) (x6 : Int32) (st : CS) (H : Heap) (locs : List Loc) (ls : Array Slot), k7 x1 x2 x3 x4 x5 x6 st → Cx D (wM o ad d) A s st H locs → lv_has ls 9 [(0, .ref o), (1, .int x1), (2, .int x2), (3, .int x3), (4, .int x4), (5, .int x5), (6, .int x6)] → W p l e (headSpec (ws_ yX1_wayOf cX1_wayOf 9 (some .int)) rmX1_wayOf).room s m args below meth c H locs 0 0 (QI below D d E (wM o ad d) A args s 0 0 post) (F0 m 7 ls [])) : ∀ (x1 : Int32) (x2 : Int32) (x3 : Int32) (x4 : Int32) (x5 : Int32) (x6 : Int32) (x7 : Int32) (st : CS) (H : Heap) (locs : List Loc) (ls : Array Slot), wX1_wayOf_116  post k7 x1 x2 x3 x4 x5 x6 x7 st → Cx D (wM o ad d) A s st H locs → lv_has ls 9 [(0, .ref o), (1, .int x1), (2, .int x2), (3, .int x3), (4, .int x4), (5, .int x5), (6, .int x6), (7, .int x7)] → W p l e (headSpec (ws_ yX1_wayOf cX1_wayOf 9 (some .int)) rmX1_wayOf).room s m args below meth c H locs 0 0 (QI below D d E (wM o ad d) A args s 0 0 post) (F0 m 116 ls []) := by
  obtain ⟨hx, hb, hr, hml, hown, hts, hlk, hA, hK, hE⟩ := id F
  intro x1 x2 x3 x4 x5 x6 x7 st H locs ls hw C hl
  unfold wX1_wayOf_116 at hw
  refine lv_iconst (v := 1) hx hb dX1_wayOf_116 (by decide) ?_
  refine lv_goto (tgt := 121) hx hb dX1_wayOf_117 (by decide) ?_
  exact kX1_wayOf_121  F hk7 x1 x2 x3 x4 x5 x6 x7 1 st _ _ _ hw C hl
set_option maxHeartbeats 4000000 in
theorem kX1_wayOf_120  {post : Int32 → CS → Prop} {k7 : Int32 → Int32 → Int32 → Int32 → Int32 → Int32 → CS → Prop} (F : Fx p s m args meth c cX1_wayOf 9 RX1 (some .int) D d E A) (hk7 : ∀ (x1 : Int32) (x2 : Int32) (x3 : Int32) (x4 : Int32) (x5 : Int32) (x6 : Int32) (st : CS) (H : Heap) (locs : List Loc) (ls : Array Slot), k7 x1 x2 x3 x4 x5 x6 st → Cx D (wM o ad d) A s st H locs → lv_has ls 9 [(0, .ref o), (1, .int x1), (2, .int x2), (3, .int x3), (4, .int x4), (5, .int x5), (6, .int x6)] → W p l e (headSpec (ws_ yX1_wayOf cX1_wayOf 9 (some .int)) rmX1_wayOf).room s m args below meth c H locs 0 0 (QI below D d E (wM o ad d) A args s 0 0 post) (F0 m 7 ls [])) : ∀ (x1 : Int32) (x2 : Int32) (x3 : Int32) (x4 : Int32) (x5 : Int32) (x6 : Int32) (x7 : Int32) (st : CS) (H : Heap) (locs : List Loc) (ls : Array Slot), wX1_wayOf_120  post k7 x1 x2 x3 x4 x5 x6 x7 st → Cx D (wM o ad d) A s st H locs → lv_has ls 9 [(0, .ref o), (1, .int x1), (2, .int x2), (3, .int x3), (4, .int x4), (5, .int x5), (6, .int x6), (7, .int x7)] → W p l e (headSpec (ws_ yX1_wayOf cX1_wayOf 9 (some .int)) rmX1_wayOf).room s m args below meth c H locs 0 0 (QI below D d E (wM o ad d) A args s 0 0 post) (F0 m 120 ls []) := by
  obtain ⟨hx, hb, hr, hml, hown, hts, hlk, hA, hK, hE⟩ := id F
  intro x1 x2 x3 x4 x5 x6 x7 st H locs ls hw C hl
  unfold wX1_wayOf_120 at hw
  refine lv_iconst (v := 0) hx hb dX1_wayOf_120 (by decide) ?_
  exact kX1_wayOf_121  F hk7 x1 x2 x3 x4 x5 x6 x7 0 st _ _ _ hw C hl
set_option maxHeartbeats 4000000 in
theorem kX1_wayOf_7  {post : Int32 → CS → Prop}  (F : Fx p s m args meth c cX1_wayOf 9 RX1 (some .int) D d E A) : ∀ (fu : Nat) (x1 : Int32) (x2 : Int32) (x3 : Int32) (x4 : Int32) (x5 : Int32) (x6 : Int32) (st : CS) (H : Heap) (locs : List Loc) (ls : Array Slot), wX1_wayOf_7  post  fu x1 x2 x3 x4 x5 x6 st → Cx D (wM o ad d) A s st H locs → lv_has ls 9 [(0, .ref o), (1, .int x1), (2, .int x2), (3, .int x3), (4, .int x4), (5, .int x5), (6, .int x6)] → W p l e (headSpec (ws_ yX1_wayOf cX1_wayOf 9 (some .int)) rmX1_wayOf).room s m args below meth c H locs 0 0 (QI below D d E (wM o ad d) A args s 0 0 post) (F0 m 7 ls []) := by
  obtain ⟨hx, hb, hr, hml, hown, hts, hlk, hA, hK, hE⟩ := id F
  intro fu
  induction fu with
  | zero =>
    intro x1 x2 x3 x4 x5 x6 st H locs ls hw
    exact hw.elim
  | succ n ih =>
    have hk7 := ih
    intro x1 x2 x3 x4 x5 x6 st H locs ls hw C hl
    unfold wX1_wayOf_7 at hw
    refine lv_iload hx hb dX1_wayOf_7 (lv_at hl 6 rfl) ?_
    refine lv_iconst (v := 1) hx hb dX1_wayOf_9 (by decide) ?_
    refine lv_aload_n hx hb dX1_wayOf_10 rfl (lv_at hl 0 rfl) ?_
    refine x1_g36 F C dX1_wayOf_11 ?_
    refine lv_ishl hx hb dX1_wayOf_14 ?_
    refine lv_icmp_ge (tgt := 143) hx hb dX1_wayOf_15 (by decide) (fun c_1 => ?_) (fun c_1 => ?_)
    · have hw := hw.1 c_1
      refine lv_iload hx hb dX1_wayOf_143 (lv_at hl 5 rfl) ?_
      exact x_iret F C hw dX1_wayOf_145
    · have hw := hw.2 c_1
      refine lv_iload hx hb dX1_wayOf_18 (lv_at hl 6 rfl) ?_
      refine lv_iload_n hx hb dX1_wayOf_20 rfl (lv_at hl 3 rfl) ?_
      refine lv_iand hx hb dX1_wayOf_21 ?_
      refine lv_iload hx hb dX1_wayOf_22 (lv_at hl 4 rfl) ?_
      refine lv_icmp_ne (tgt := 137) hx hb dX1_wayOf_24 (by decide) (fun c_2 => ?_) (fun c_2 => ?_)
      · have hw := hw.2 c_2
        exact kX1_wayOf_137  F hk7 x1 x2 x3 x4 x5 x6 st _ _ _ hw C hl
      · have hw := hw.1 c_2
        refine lv_bipush (v := 25) hx hb dX1_wayOf_27 (by decide) ?_
        refine lv_iload hx hb dX1_wayOf_29 (lv_at hl 6 rfl) ?_
        refine lv_imul hx hb dX1_wayOf_31 ?_
        refine lv_iload_n hx hb dX1_wayOf_32 rfl (lv_at hl 1 rfl) ?_
        refine lv_iadd hx hb dX1_wayOf_33 ?_
        refine lv_topi (fun x7_4 ex7_4 => ?_)
        have hw := hw x7_4 ex7_4
        refine lv_istore (lv' := [(7, .int x7_4), (0, .ref o), (1, .int x1), (2, .int x2), (3, .int x3), (4, .int x4), (5, .int x5), (6, .int x6)]) hx hb dX1_wayOf_34 hl (by decide) rfl (fun ls hl => ?_)
        refine lv_iload hx hb dX1_wayOf_36 (lv_at hl 6 rfl) ?_
        refine lv_if_lt (tgt := 116) hx hb dX1_wayOf_38 (by decide) (fun c_5 => ?_) (fun c_5 => ?_)
        · have hw := hw.1 c_5
          exact kX1_wayOf_116  F hk7 x1 x2 x3 x4 x5 x6 x7_4 st _ _ _ hw C (lv_sub hl [1, 2, 3, 4, 5, 6, 7, 0] rfl)
        · have hw := hw.2 c_5
          refine lv_iload_n hx hb dX1_wayOf_41 rfl (lv_at hl 3 rfl) ?_
          refine lv_if_eq (tgt := 82) hx hb dX1_wayOf_42 (by decide) (fun c_7 => ?_) (fun c_7 => ?_)
          · have hw := hw.1 c_7
            refine lv_aload_n hx hb dX1_wayOf_82 rfl (lv_at hl 1 rfl) ?_
            refine x1_g46 F C dX1_wayOf_83 ?_
            refine lv_iload hx hb dX1_wayOf_86 (lv_at hl 0 rfl) ?_
            obtain ⟨h_8, hw⟩ := hw
            refine x1_ld46 F C h_8 dX1_wayOf_88 ?_
            refine lv_aload_n hx hb dX1_wayOf_89 rfl (lv_at hl 1 rfl) ?_
            refine x1_g47 F C dX1_wayOf_90 ?_
            refine lv_iload hx hb dX1_wayOf_93 (lv_at hl 0 rfl) ?_
            obtain ⟨h_9, hw⟩ := hw
            refine x1_ld47 F C h_9 dX1_wayOf_95 ?_
            refine lv_aload_n hx hb dX1_wayOf_96 rfl (lv_at hl 1 rfl) ?_
            refine x1_g46 F C dX1_wayOf_97 ?_
            refine lv_iload hx hb dX1_wayOf_100 (lv_at hl 6 rfl) ?_
            obtain ⟨h_10, hw⟩ := hw
            refine x1_ld46 F C h_10 dX1_wayOf_102 ?_
            refine lv_aload_n hx hb dX1_wayOf_103 rfl (lv_at hl 1 rfl) ?_
            refine x1_g47 F C dX1_wayOf_104 ?_
            refine lv_iload hx hb dX1_wayOf_107 (lv_at hl 6 rfl) ?_
            obtain ⟨h_11, hw⟩ := hw
            refine x1_ld47 F C h_11 dX1_wayOf_109 ?_
            refine x_callSI (rest := []) F C (ctX1_isBelow hE hw) (va_cwS 4 hts (lw_S q1209 q1210 q71 q1211) rfl rfl rfl (by decide +kernel) ⟨Nat.le_of_ble_eq_true rfl, Nat.le_of_ble_eq_true rfl⟩) rfl hl.1 rfl (Nat.le_of_ble_eq_true rfl) dX1_wayOf_110 ⟨Nat.zero_le _, Nat.zero_le _⟩ (fun r_13 s_12 H locs hw C => ?_)
            refine lv_if_eq (tgt := 120) hx hb dX1_wayOf_113 (by decide) (fun c_14 => ?_) (fun c_14 => ?_)
            · have hw := hw.1 c_14
              exact kX1_wayOf_120  F hk7 x1 x2 x3 x4 x5 x6 x7_4 s_12 _ _ _ hw C (lv_sub hl [1, 2, 3, 4, 5, 6, 7, 0] rfl)
            · have hw := hw.2 c_14
              exact kX1_wayOf_116  F hk7 x1 x2 x3 x4 x5 x6 x7_4 s_12 _ _ _ hw C (lv_sub hl [1, 2, 3, 4, 5, 6, 7, 0] rfl)
          · have hw := hw.2 c_7
            refine lv_aload_n hx hb dX1_wayOf_45 rfl (lv_at hl 1 rfl) ?_
            refine x1_g46 F C dX1_wayOf_46 ?_
            refine lv_iload hx hb dX1_wayOf_49 (lv_at hl 6 rfl) ?_
            obtain ⟨h_15, hw⟩ := hw
            refine x1_ld46 F C h_15 dX1_wayOf_51 ?_
            refine lv_aload_n hx hb dX1_wayOf_52 rfl (lv_at hl 1 rfl) ?_
            refine x1_g47 F C dX1_wayOf_53 ?_
            refine lv_iload hx hb dX1_wayOf_56 (lv_at hl 6 rfl) ?_
            obtain ⟨h_16, hw⟩ := hw
            refine x1_ld47 F C h_16 dX1_wayOf_58 ?_
            refine lv_aload_n hx hb dX1_wayOf_59 rfl (lv_at hl 1 rfl) ?_
            refine x1_g46 F C dX1_wayOf_60 ?_
            refine lv_iload hx hb dX1_wayOf_63 (lv_at hl 0 rfl) ?_
            obtain ⟨h_17, hw⟩ := hw
            refine x1_ld46 F C h_17 dX1_wayOf_65 ?_
            refine lv_aload_n hx hb dX1_wayOf_66 rfl (lv_at hl 1 rfl) ?_
            refine x1_g47 F C dX1_wayOf_67 ?_
            refine lv_iload hx hb dX1_wayOf_70 (lv_at hl 0 rfl) ?_
            obtain ⟨h_18, hw⟩ := hw
            refine x1_ld47 F C h_18 dX1_wayOf_72 ?_
            refine x_callSI (rest := []) F C (ctX1_isBelow hE hw) (va_cwS 4 hts (lw_S q1209 q1210 q71 q1211) rfl rfl rfl (by decide +kernel) ⟨Nat.le_of_ble_eq_true rfl, Nat.le_of_ble_eq_true rfl⟩) rfl hl.1 rfl (Nat.le_of_ble_eq_true rfl) dX1_wayOf_73 ⟨Nat.zero_le _, Nat.zero_le _⟩ (fun r_20 s_19 H locs hw C => ?_)
            refine lv_if_eq (tgt := 120) hx hb dX1_wayOf_76 (by decide) (fun c_21 => ?_) (fun c_21 => ?_)
            · have hw := hw.1 c_21
              exact kX1_wayOf_120  F hk7 x1 x2 x3 x4 x5 x6 x7_4 s_19 _ _ _ hw C (lv_sub hl [1, 2, 3, 4, 5, 6, 7, 0] rfl)
            · have hw := hw.2 c_21
              refine lv_goto (tgt := 116) hx hb dX1_wayOf_79 (by decide) ?_
              exact kX1_wayOf_116  F hk7 x1 x2 x3 x4 x5 x6 x7_4 s_19 _ _ _ hw C (lv_sub hl [1, 2, 3, 4, 5, 6, 7, 0] rfl)
theorem ctX1_wayOf (hE : Em E)  {post : Int32 → CS → Prop} {s0 : CS} {p0 p1 p2 p3 : Int32} (hw : wpX1_wayOf  post s0 p0 p1 p2 p3) : CtI l yX1_wayOf (ws_ yX1_wayOf cX1_wayOf 9 (some .int)) rmX1_wayOf D d E (wM o ad d) 0 0 [.ref o, .int p0, .int p1, .int p2, .int p3] s0 post := by
  refine CtI.of hE (by decide) rfl (Nat.le_of_ble_eq_true rfl) ?_
  intro p e s m below meth c A ls F C hl
  have hl : lv_has ls 9 [(0, .ref o), (1, .int p0), (2, .int p1), (3, .int p2), (4, .int p3)] := hl
  unfold wpX1_wayOf at hw
  obtain ⟨hx, hb, hr, hml, hown, hts, hlk, hA, hK, -⟩ := id F
  refine lv_bipush (v := (-9)) hx hb dX1_wayOf_0 (by decide) ?_
  refine lv_istore (lv' := [(5, .int (-9)), (0, .ref o), (1, .int p0), (2, .int p1), (3, .int p2), (4, .int p3)]) hx hb dX1_wayOf_2 hl (by decide) rfl (fun ls hl => ?_)
  refine lv_iconst (v := 0) hx hb dX1_wayOf_4 (by decide) ?_
  refine lv_istore (lv' := [(6, .int 0), (5, .int (-9)), (0, .ref o), (1, .int p0), (2, .int p1), (3, .int p2), (4, .int p3)]) hx hb dX1_wayOf_5 hl (by decide) rfl (fun ls hl => ?_)
  obtain ⟨fu, hw⟩ := hw
  exact kX1_wayOf_7  F  fu p0 p1 p2 p3 (-9) 0 s0 _ _ _ hw C (lv_sub hl [2, 3, 4, 5, 6, 1, 0] rfl)

abbrev rmX1_bound : Room := { frames := 8, cells := 0, slots := 0, locals := 215 }
def wX1_bound_38  (post : Int32 → CS → Prop)  (x3 : Int32) (y0 : Int32) (st : CS) : Prop := (wpX1_wayOf (fun r_9 s_8 => (vp_in r_9 6400 ∧ (vp_in r_9 6400 ∧ (wpX1_tell (fun r_13 s_12 => (post r_13 s_12)) s_8 (sM s_8 46 r_9.toNatClampNeg) (sM s_8 47 r_9.toNatClampNeg))))) st y0 x3 0 0)
def wpX1_bound  (post : Int32 → CS → Prop) (s0 : CS) (p0 : Int32) (p1 : Int32) (p2 : Int32) : Prop := (wpX1_isTaker (fun r_2 s_1 => ((r_2 = 0 → (post (-1) s_1)) ∧ (¬ r_2 = 0 → (wpX1_askedOpen (fun r_5 s_4 => ((0 ≤ r_5 → ((p1 = (-9) → (wX1_bound_38  post  p2 24 s_4)) ∧ (¬ p1 = (-9) → (wX1_bound_38  post  p2 p1 s_4)))) ∧ (¬ 0 ≤ r_5 → (post r_5 s_4)))) s_1 p0)))) s0 p1)
set_option maxHeartbeats 4000000 in
theorem kX1_bound_38  {post : Int32 → CS → Prop}  (F : Fx p s m args meth c cX1_bound 6 RX1 (some .int) D d E A) : ∀ (x3 : Int32) (y0 : Int32) (st : CS) (H : Heap) (locs : List Loc) (ls : Array Slot), wX1_bound_38  post  x3 y0 st → Cx D (wM o ad d) A s st H locs → lv_has ls 6 [(0, .ref o), (3, .int x3)] → W p l e (headSpec (ws_ yX1_bound cX1_bound 6 (some .int)) rmX1_bound).room s m args below meth c H locs 0 0 (QI below D d E (wM o ad d) A args s 0 0 post) (F0 m 38 ls [.int y0, .ref o]) := by
  obtain ⟨hx, hb, hr, hml, hown, hts, hlk, hA, hK, hE⟩ := id F
  intro x3 y0 st H locs ls hw C hl
  unfold wX1_bound_38 at hw
  refine lv_iload_n hx hb dX1_bound_38 rfl (lv_at hl 1 rfl) ?_
  refine lv_iconst (v := 0) hx hb dX1_bound_39 (by decide) ?_
  refine lv_iconst (v := 0) hx hb dX1_bound_40 (by decide) ?_
  refine x_callI (rest := []) (ci := 5) (q := (RX1, TX1, 55)) F C (ctX1_wayOf hE hw) (cwV 4 hts (lw_V q1205 q1207 qs63 q71 q1208) rfl rfl rfl (by decide +kernel) ⟨Nat.le_of_ble_eq_true rfl, Nat.le_of_ble_eq_true rfl⟩) rfl rfl rfl hl.1 rfl (Nat.le_of_ble_eq_true rfl) dX1_bound_41 ⟨Nat.zero_le _, Nat.zero_le _⟩ (fun r_9 s_8 H locs hw C => ?_)
  refine lv_istore (lv' := [(5, .int r_9), (0, .ref o), (3, .int x3)]) hx hb dX1_bound_44 hl (by decide) rfl (fun ls hl => ?_)
  refine lv_aload_n hx hb dX1_bound_46 rfl (lv_at hl 1 rfl) ?_
  refine lv_aload_n hx hb dX1_bound_47 rfl (lv_at hl 1 rfl) ?_
  refine x1_g46 F C dX1_bound_48 ?_
  refine lv_iload hx hb dX1_bound_51 (lv_at hl 0 rfl) ?_
  obtain ⟨h_10, hw⟩ := hw
  refine x1_ld46 F C h_10 dX1_bound_53 ?_
  refine lv_aload_n hx hb dX1_bound_54 rfl (lv_at hl 1 rfl) ?_
  refine x1_g47 F C dX1_bound_55 ?_
  refine lv_iload hx hb dX1_bound_58 (lv_at hl 0 rfl) ?_
  obtain ⟨h_11, hw⟩ := hw
  refine x1_ld47 F C h_11 dX1_bound_60 ?_
  refine x_callI (rest := []) (ci := 5) (q := (RX1, TX1, 55)) F C (ctX1_tell hE hw) (cwV 2 hts (lw_V q1181 q1183 qs60 q71 q1184) rfl rfl rfl (by decide +kernel) ⟨Nat.le_of_ble_eq_true rfl, Nat.le_of_ble_eq_true rfl⟩) rfl rfl rfl hl.1 rfl (Nat.le_of_ble_eq_true rfl) dX1_bound_61 ⟨Nat.zero_le _, Nat.zero_le _⟩ (fun r_13 s_12 H locs hw C => ?_)
  exact x_iret F C hw dX1_bound_64
theorem ctX1_bound (hE : Em E)  {post : Int32 → CS → Prop} {s0 : CS} {p0 p1 p2 : Int32} (hw : wpX1_bound  post s0 p0 p1 p2) : CtI l yX1_bound (ws_ yX1_bound cX1_bound 6 (some .int)) rmX1_bound D d E (wM o ad d) 0 0 [.ref o, .int p0, .int p1, .int p2] s0 post := by
  refine CtI.of hE (by decide) rfl (Nat.le_of_ble_eq_true rfl) ?_
  intro p e s m below meth c A ls F C hl
  have hl : lv_has ls 6 [(0, .ref o), (1, .int p0), (2, .int p1), (3, .int p2)] := hl
  unfold wpX1_bound at hw
  obtain ⟨hx, hb, hr, hml, hown, hts, hlk, hA, hK, -⟩ := id F
  refine lv_aload_n hx hb dX1_bound_0 rfl (lv_at hl 0 rfl) ?_
  refine lv_iload_n hx hb dX1_bound_1 rfl (lv_at hl 2 rfl) ?_
  refine x_callI (rest := []) (ci := 5) (q := (RX1, TX1, 55)) F C (ctX1_isTaker hE hw) (cwV 1 hts (lw_V q1122 q1124 qs46 q71 q1125) rfl rfl rfl (by decide +kernel) ⟨Nat.le_of_ble_eq_true rfl, Nat.le_of_ble_eq_true rfl⟩) rfl rfl rfl hl.1 rfl (Nat.le_of_ble_eq_true rfl) dX1_bound_2 ⟨Nat.zero_le _, Nat.zero_le _⟩ (fun r_2 s_1 H locs hw C => ?_)
  refine lv_if_ne (tgt := 10) hx hb dX1_bound_5 (by decide) (fun c_3 => ?_) (fun c_3 => ?_)
  · have hw := hw.2 c_3
    refine lv_aload_n hx hb dX1_bound_10 rfl (lv_at hl 0 rfl) ?_
    refine lv_iload_n hx hb dX1_bound_11 rfl (lv_at hl 1 rfl) ?_
    refine x_callI (rest := []) (ci := 5) (q := (RX1, TX1, 55)) F C (ctX1_askedOpen hE hw) (cwV 1 hts (lw_V q1197 q1199 qs61 q71 q1200) rfl rfl rfl (by decide +kernel) ⟨Nat.le_of_ble_eq_true rfl, Nat.le_of_ble_eq_true rfl⟩) rfl rfl rfl hl.1 rfl (Nat.le_of_ble_eq_true rfl) dX1_bound_12 ⟨Nat.zero_le _, Nat.zero_le _⟩ (fun r_5 s_4 H locs hw C => ?_)
    refine lv_istore (lv' := [(4, .int r_5), (0, .ref o), (1, .int p0), (2, .int p1), (3, .int p2)]) hx hb dX1_bound_15 hl (by decide) rfl (fun ls hl => ?_)
    refine lv_iload hx hb dX1_bound_17 (lv_at hl 0 rfl) ?_
    refine lv_if_ge (tgt := 25) hx hb dX1_bound_19 (by decide) (fun c_6 => ?_) (fun c_6 => ?_)
    · have hw := hw.1 c_6
      refine lv_aload_n hx hb dX1_bound_25 rfl (lv_at hl 1 rfl) ?_
      refine lv_iload_n hx hb dX1_bound_26 rfl (lv_at hl 3 rfl) ?_
      refine lv_bipush (v := (-9)) hx hb dX1_bound_27 (by decide) ?_
      refine lv_icmp_ne (tgt := 37) hx hb dX1_bound_29 (by decide) (fun c_7 => ?_) (fun c_7 => ?_)
      · have hw := hw.2 c_7
        refine lv_iload_n hx hb dX1_bound_37 rfl (lv_at hl 3 rfl) ?_
        exact kX1_bound_38  F  p2 p1 s_4 _ _ _ hw C (lv_sub hl [1, 4] rfl)
      · have hw := hw.1 c_7
        refine lv_bipush (v := 24) hx hb dX1_bound_32 (by decide) ?_
        refine lv_goto (tgt := 38) hx hb dX1_bound_34 (by decide) ?_
        exact kX1_bound_38  F  p2 24 s_4 _ _ _ hw C (lv_sub hl [1, 4] rfl)
    · have hw := hw.2 c_6
      refine lv_iload hx hb dX1_bound_22 (lv_at hl 0 rfl) ?_
      exact x_iret F C hw dX1_bound_24
  · have hw := hw.1 c_3
    refine lv_iconst (v := (-1)) hx hb dX1_bound_8 (by decide) ?_
    exact x_iret F C hw dX1_bound_9

abbrev rmX1_spreadOf : Room := { frames := 2, cells := 0, slots := 0, locals := 72 }
def wX1_spreadOf_12  (post : CS → Prop)  : Nat → Int32 → Int32 → Int32 → CS → Prop
  | 0 => fun _ _ _ _ => False
  | n + 1 => fun x1 x2 x3 st => (((sI st 2) ≤ x3 → (post st)) ∧ (¬ (sI st 2) ≤ x3 → (wpX1_wayOf (fun r_5 s_4 => (wpX1_wayOf (fun r_7 s_6 => (vp_in r_5 6400 ∧ (vp_in r_5 6400 ∧ (wpX1_add (fun s_10 => (vp_in r_7 6400 ∧ (vp_in r_7 6400 ∧ (wpX1_add (fun s_14 => (∀ x3_16 : Int32, x3_16 = x3 + 1 → (wX1_spreadOf_12  post  n x1 x2 x3_16 s_14))) s_10 (sL s_10 28) (sL s_10 29) (-(sM s_10 46 r_7.toNatClampNeg)) (sM s_10 47 r_7.toNatClampNeg))))) s_6 (sL s_6 28) (sL s_6 29) (sM s_6 46 r_5.toNatClampNeg) (sM s_6 47 r_5.toNatClampNeg))))) s_4 x3 0 x1 x2)) st x3 1 x1 x2)))
def wpX1_spreadOf  (post : CS → Prop) (s0 : CS) (p0 : Int32) (p1 : Int32) : Prop := (∀ s_1 : CS, s_1 = uL s0 28 0 → (∀ s_2 : CS, s_2 = uL s_1 29 1 → (∃ fu : Nat, wX1_spreadOf_12  post  fu p0 p1 0 s_2)))
set_option maxHeartbeats 4000000 in
theorem kX1_spreadOf_12  {post : CS → Prop}  (F : Fx p s m args meth c cX1_spreadOf 6 RX1 none D d E A) : ∀ (fu : Nat) (x1 : Int32) (x2 : Int32) (x3 : Int32) (st : CS) (H : Heap) (locs : List Loc) (ls : Array Slot), wX1_spreadOf_12  post  fu x1 x2 x3 st → Cx D (wM o ad d) A s st H locs → lv_has ls 6 [(0, .ref o), (1, .int x1), (2, .int x2), (3, .int x3)] → W p l e (headSpec (ws_ yX1_spreadOf cX1_spreadOf 6 none) rmX1_spreadOf).room s m args below meth c H locs 0 0 (QV below D d E (wM o ad d) A args s 0 0 post) (F0 m 12 ls []) := by
  obtain ⟨hx, hb, hr, hml, hown, hts, hlk, hA, hK, hE⟩ := id F
  intro fu
  induction fu with
  | zero =>
    intro x1 x2 x3 st H locs ls hw
    exact hw.elim
  | succ n ih =>
    have hk12 := ih
    intro x1 x2 x3 st H locs ls hw C hl
    unfold wX1_spreadOf_12 at hw
    refine lv_iload_n hx hb dX1_spreadOf_12 rfl (lv_at hl 3 rfl) ?_
    refine lv_aload_n hx hb dX1_spreadOf_13 rfl (lv_at hl 0 rfl) ?_
    refine x1_g2 F C dX1_spreadOf_14 ?_
    refine lv_icmp_ge (tgt := 99) hx hb dX1_spreadOf_17 (by decide) (fun c_3 => ?_) (fun c_3 => ?_)
    · have hw := hw.1 c_3
      exact x_vret F C hw dX1_spreadOf_99
    · have hw := hw.2 c_3
      refine lv_aload_n hx hb dX1_spreadOf_20 rfl (lv_at hl 0 rfl) ?_
      refine lv_iload_n hx hb dX1_spreadOf_21 rfl (lv_at hl 3 rfl) ?_
      refine lv_iconst (v := 1) hx hb dX1_spreadOf_22 (by decide) ?_
      refine lv_iload_n hx hb dX1_spreadOf_23 rfl (lv_at hl 1 rfl) ?_
      refine lv_iload_n hx hb dX1_spreadOf_24 rfl (lv_at hl 2 rfl) ?_
      refine x_callI (rest := []) (ci := 5) (q := (RX1, TX1, 55)) F C (ctX1_wayOf hE hw) (cwV 4 hts (lw_V q1205 q1207 qs63 q71 q1208) rfl rfl rfl (by decide +kernel) ⟨Nat.le_of_ble_eq_true rfl, Nat.le_of_ble_eq_true rfl⟩) rfl rfl rfl hl.1 rfl (Nat.le_of_ble_eq_true rfl) dX1_spreadOf_25 ⟨Nat.zero_le _, Nat.zero_le _⟩ (fun r_5 s_4 H locs hw C => ?_)
      refine lv_istore (lv' := [(4, .int r_5), (0, .ref o), (1, .int x1), (2, .int x2), (3, .int x3)]) hx hb dX1_spreadOf_28 hl (by decide) rfl (fun ls hl => ?_)
      refine lv_aload_n hx hb dX1_spreadOf_30 rfl (lv_at hl 1 rfl) ?_
      refine lv_iload_n hx hb dX1_spreadOf_31 rfl (lv_at hl 4 rfl) ?_
      refine lv_iconst (v := 0) hx hb dX1_spreadOf_32 (by decide) ?_
      refine lv_iload_n hx hb dX1_spreadOf_33 rfl (lv_at hl 2 rfl) ?_
      refine lv_iload_n hx hb dX1_spreadOf_34 rfl (lv_at hl 3 rfl) ?_
      refine x_callI (rest := []) (ci := 5) (q := (RX1, TX1, 55)) F C (ctX1_wayOf hE hw) (cwV 4 hts (lw_V q1205 q1207 qs63 q71 q1208) rfl rfl rfl (by decide +kernel) ⟨Nat.le_of_ble_eq_true rfl, Nat.le_of_ble_eq_true rfl⟩) rfl rfl rfl hl.1 rfl (Nat.le_of_ble_eq_true rfl) dX1_spreadOf_35 ⟨Nat.zero_le _, Nat.zero_le _⟩ (fun r_7 s_6 H locs hw C => ?_)
      refine lv_istore (lv' := [(5, .int r_7), (4, .int r_5), (0, .ref o), (1, .int x1), (2, .int x2), (3, .int x3)]) hx hb dX1_spreadOf_38 hl (by decide) rfl (fun ls hl => ?_)
      refine lv_aload_n hx hb dX1_spreadOf_40 rfl (lv_at hl 2 rfl) ?_
      refine lv_aload_n hx hb dX1_spreadOf_41 rfl (lv_at hl 2 rfl) ?_
      refine x1_g28 F C dX1_spreadOf_42 ?_
      refine lv_aload_n hx hb dX1_spreadOf_45 rfl (lv_at hl 2 rfl) ?_
      refine x1_g29 F C dX1_spreadOf_46 ?_
      refine lv_aload_n hx hb dX1_spreadOf_49 rfl (lv_at hl 2 rfl) ?_
      refine x1_g46 F C dX1_spreadOf_50 ?_
      refine lv_iload hx hb dX1_spreadOf_53 (lv_at hl 1 rfl) ?_
      obtain ⟨h_8, hw⟩ := hw
      refine x1_ld46 F C h_8 dX1_spreadOf_55 ?_
      refine lv_aload_n hx hb dX1_spreadOf_56 rfl (lv_at hl 2 rfl) ?_
      refine x1_g47 F C dX1_spreadOf_57 ?_
      refine lv_iload hx hb dX1_spreadOf_60 (lv_at hl 1 rfl) ?_
      obtain ⟨h_9, hw⟩ := hw
      refine x1_ld47 F C h_9 dX1_spreadOf_62 ?_
      refine x_callV (rest := []) (ci := 5) (q := (RX1, TX1, 55)) F C (ctX1_add hE hw) (cwV 4 hts (lw_V q1162 q1164 qs56 q71 q1165) rfl rfl rfl (by decide +kernel) ⟨Nat.le_of_ble_eq_true rfl, Nat.le_of_ble_eq_true rfl⟩) rfl rfl rfl hl.1 rfl (Nat.le_of_ble_eq_true rfl) dX1_spreadOf_63 ⟨Nat.zero_le _, Nat.zero_le _⟩ (fun s_10 H locs hw C => ?_)
      refine lv_aload_n hx hb dX1_spreadOf_66 rfl (lv_at hl 2 rfl) ?_
      refine lv_aload_n hx hb dX1_spreadOf_67 rfl (lv_at hl 2 rfl) ?_
      refine x1_g28 F C dX1_spreadOf_68 ?_
      refine lv_aload_n hx hb dX1_spreadOf_71 rfl (lv_at hl 2 rfl) ?_
      refine x1_g29 F C dX1_spreadOf_72 ?_
      refine lv_aload_n hx hb dX1_spreadOf_75 rfl (lv_at hl 2 rfl) ?_
      refine x1_g46 F C dX1_spreadOf_76 ?_
      refine lv_iload hx hb dX1_spreadOf_79 (lv_at hl 0 rfl) ?_
      obtain ⟨h_12, hw⟩ := hw
      refine x1_ld46 F C h_12 dX1_spreadOf_81 ?_
      refine lv_lneg hx hb dX1_spreadOf_82 ?_
      refine lv_aload_n hx hb dX1_spreadOf_83 rfl (lv_at hl 2 rfl) ?_
      refine x1_g47 F C dX1_spreadOf_84 ?_
      refine lv_iload hx hb dX1_spreadOf_87 (lv_at hl 0 rfl) ?_
      obtain ⟨h_13, hw⟩ := hw
      refine x1_ld47 F C h_13 dX1_spreadOf_89 ?_
      refine x_callV (rest := []) (ci := 5) (q := (RX1, TX1, 55)) F C (ctX1_add hE hw) (cwV 4 hts (lw_V q1162 q1164 qs56 q71 q1165) rfl rfl rfl (by decide +kernel) ⟨Nat.le_of_ble_eq_true rfl, Nat.le_of_ble_eq_true rfl⟩) rfl rfl rfl hl.1 rfl (Nat.le_of_ble_eq_true rfl) dX1_spreadOf_90 ⟨Nat.zero_le _, Nat.zero_le _⟩ (fun s_14 H locs hw C => ?_)
      obtain ⟨x3_16, ex3_16⟩ : ∃ y : Int32, y = x3 + 1 := ⟨_, rfl⟩
      have hw := hw x3_16 ex3_16
      refine lv_iinc (v := x3_16) (lv' := [(3, .int x3_16), (5, .int r_7), (4, .int r_5), (0, .ref o), (1, .int x1), (2, .int x2)]) hx hb dX1_spreadOf_93 hl (k := 5) rfl (by rw [ex3_16]; rfl) (by decide) rfl (fun ls hl => ?_)
      refine lv_goto (tgt := 12) hx hb dX1_spreadOf_96 (by decide) ?_
      exact hk12 x1 x2 x3_16 s_14 _ _ _ hw C (lv_sub hl [3, 4, 5, 0] rfl)
theorem ctX1_spreadOf (hE : Em E)  {post : CS → Prop} {s0 : CS} {p0 p1 : Int32} (hw : wpX1_spreadOf  post s0 p0 p1) : CtV l yX1_spreadOf (ws_ yX1_spreadOf cX1_spreadOf 6 none) rmX1_spreadOf D d E (wM o ad d) 0 0 [.ref o, .int p0, .int p1] s0 post := by
  refine CtV.of hE (by decide) rfl (Nat.le_of_ble_eq_true rfl) ?_
  intro p e s m below meth c A ls F C hl
  have hl : lv_has ls 6 [(0, .ref o), (1, .int p0), (2, .int p1)] := hl
  unfold wpX1_spreadOf at hw
  obtain ⟨hx, hb, hr, hml, hown, hts, hlk, hA, hK, -⟩ := id F
  refine lv_aload_n hx hb dX1_spreadOf_0 rfl (lv_at hl 0 rfl) ?_
  refine lv_lconst (v := 0) hx hb dX1_spreadOf_1 (by decide) ?_
  refine x1_p28 F C dX1_spreadOf_2 (fun H locs s_1 es_1 C => ?_)
  have hw := hw s_1 es_1
  refine lv_aload_n hx hb dX1_spreadOf_5 rfl (lv_at hl 0 rfl) ?_
  refine lv_lconst (v := 1) hx hb dX1_spreadOf_6 (by decide) ?_
  refine x1_p29 F C dX1_spreadOf_7 (fun H locs s_2 es_2 C => ?_)
  have hw := hw s_2 es_2
  refine lv_iconst (v := 0) hx hb dX1_spreadOf_10 (by decide) ?_
  refine lv_istore_n (lv' := [(3, .int 0), (0, .ref o), (1, .int p0), (2, .int p1)]) hx hb dX1_spreadOf_11 rfl hl (by decide) rfl (fun ls hl => ?_)
  obtain ⟨fu, hw⟩ := hw
  exact kX1_spreadOf_12  F  fu p0 p1 0 s_2 _ _ _ hw C (lv_sub hl [1, 2, 3, 0] rfl)

abbrev rmX1_spread : Room := { frames := 8, cells := 0, slots := 0, locals := 215 }
def wpX1_spread  (post : Int32 → CS → Prop) (s0 : CS) (p0 : Int32) : Prop := (wpX1_askedOpen (fun r_2 s_1 => ((0 ≤ r_2 → (wpX1_spreadOf (fun s_4 => (wpX1_tell (fun r_7 s_6 => (post r_7 s_6)) s_4 (sL s_4 28) (sL s_4 29))) s_1 0 0)) ∧ (¬ 0 ≤ r_2 → (post r_2 s_1)))) s0 p0)
theorem ctX1_spread (hE : Em E)  {post : Int32 → CS → Prop} {s0 : CS} {p0 : Int32} (hw : wpX1_spread  post s0 p0) : CtI l yX1_spread (ws_ yX1_spread cX1_spread 3 (some .int)) rmX1_spread D d E (wM o ad d) 0 0 [.ref o, .int p0] s0 post := by
  refine CtI.of hE (by decide) rfl (Nat.le_of_ble_eq_true rfl) ?_
  intro p e s m below meth c A ls F C hl
  have hl : lv_has ls 3 [(0, .ref o), (1, .int p0)] := hl
  unfold wpX1_spread at hw
  obtain ⟨hx, hb, hr, hml, hown, hts, hlk, hA, hK, -⟩ := id F
  refine lv_aload_n hx hb dX1_spread_0 rfl (lv_at hl 0 rfl) ?_
  refine lv_iload_n hx hb dX1_spread_1 rfl (lv_at hl 1 rfl) ?_
  refine x_callI (rest := []) (ci := 5) (q := (RX1, TX1, 55)) F C (ctX1_askedOpen hE hw) (cwV 1 hts (lw_V q1197 q1199 qs61 q71 q1200) rfl rfl rfl (by decide +kernel) ⟨Nat.le_of_ble_eq_true rfl, Nat.le_of_ble_eq_true rfl⟩) rfl rfl rfl hl.1 rfl (Nat.le_of_ble_eq_true rfl) dX1_spread_2 ⟨Nat.zero_le _, Nat.zero_le _⟩ (fun r_2 s_1 H locs hw C => ?_)
  refine lv_istore_n (lv' := [(2, .int r_2), (0, .ref o), (1, .int p0)]) hx hb dX1_spread_5 rfl hl (by decide) rfl (fun ls hl => ?_)
  refine lv_iload_n hx hb dX1_spread_6 rfl (lv_at hl 0 rfl) ?_
  refine lv_if_ge (tgt := 12) hx hb dX1_spread_7 (by decide) (fun c_3 => ?_) (fun c_3 => ?_)
  · have hw := hw.1 c_3
    refine lv_aload_n hx hb dX1_spread_12 rfl (lv_at hl 1 rfl) ?_
    refine lv_iconst (v := 0) hx hb dX1_spread_13 (by decide) ?_
    refine lv_iconst (v := 0) hx hb dX1_spread_14 (by decide) ?_
    refine x_callV (rest := []) (ci := 5) (q := (RX1, TX1, 55)) F C (ctX1_spreadOf hE hw) (cwV 2 hts (lw_V q1216 q1218 qs64 q71 q1219) rfl rfl rfl (by decide +kernel) ⟨Nat.le_of_ble_eq_true rfl, Nat.le_of_ble_eq_true rfl⟩) rfl rfl rfl hl.1 rfl (Nat.le_of_ble_eq_true rfl) dX1_spread_15 ⟨Nat.zero_le _, Nat.zero_le _⟩ (fun s_4 H locs hw C => ?_)
    refine lv_aload_n hx hb dX1_spread_18 rfl (lv_at hl 1 rfl) ?_
    refine lv_aload_n hx hb dX1_spread_19 rfl (lv_at hl 1 rfl) ?_
    refine x1_g28 F C dX1_spread_20 ?_
    refine lv_aload_n hx hb dX1_spread_23 rfl (lv_at hl 1 rfl) ?_
    refine x1_g29 F C dX1_spread_24 ?_
    refine x_callI (rest := []) (ci := 5) (q := (RX1, TX1, 55)) F C (ctX1_tell hE hw) (cwV 2 hts (lw_V q1181 q1183 qs60 q71 q1184) rfl rfl rfl (by decide +kernel) ⟨Nat.le_of_ble_eq_true rfl, Nat.le_of_ble_eq_true rfl⟩) rfl rfl rfl hl.1 rfl (Nat.le_of_ble_eq_true rfl) dX1_spread_27 ⟨Nat.zero_le _, Nat.zero_le _⟩ (fun r_7 s_6 H locs hw C => ?_)
    exact x_iret F C hw dX1_spread_30
  · have hw := hw.2 c_3
    refine lv_iload_n hx hb dX1_spread_10 rfl (lv_at hl 0 rfl) ?_
    exact x_iret F C hw dX1_spread_11

abbrev rmX1_worthOf : Room := { frames := 3, cells := 0, slots := 0, locals := 97 }
def wX1_worthOf_57  (post : CS → Prop)  (x1 : Int32) (x2 : Int64) (x4 : Int64) (st : CS) : Prop := (wpX1_spreadOf (fun s_10 => (wpX1_add (fun s_12 => (∀ s_14 : CS, s_14 = uL s_12 48 (sL s_12 28) → (vp_in x1 40 ∧ (vp_in (sA s_14 37 x1.toNatClampNeg) 40 ∧ (∀ s_17 : CS, s_17 = uL s_14 49 ((sL s_14 29) * ((sA s_14 11 (sA s_14 37 x1.toNatClampNeg).toNatClampNeg).toInt64)) → (post s_17)))))) s_10 (sL s_10 28) (sL s_10 29) (-x2) x4)) st 0 0)
def wpX1_worthOf  (post : CS → Prop) (s0 : CS) (p0 : Int32) : Prop := (wpX1_spreadOf (fun s_1 => (∀ x2_3 : Int64, x2_3 = (sL s_1 28) → (∀ x4_4 : Int64, x4_4 = (sL s_1 29) → (wpX1_spreadOf (fun s_5 => (wpX1_isBelow (fun r_8 s_7 => ((r_8 = 0 → (wX1_worthOf_57  post  p0 x2_3 x4_4 s_7)) ∧ (¬ r_8 = 0 → (∀ x2_18 : Int64, x2_18 = (sL s_7 28) → (∀ x4_19 : Int64, x4_19 = (sL s_7 29) → (wX1_worthOf_57  post  p0 x2_18 x4_19 s_7)))))) s_5 x2_3 x4_4 (sL s_5 28) (sL s_5 29))) s_1 (1 <<< (p0 &&& 31)) 0)))) s0 (1 <<< (p0 &&& 31)) (1 <<< (p0 &&& 31)))
set_option maxHeartbeats 4000000 in
theorem kX1_worthOf_57  {post : CS → Prop}  (F : Fx p s m args meth c cX1_worthOf 6 RX1 none D d E A) : ∀ (x1 : Int32) (x2 : Int64) (x4 : Int64) (st : CS) (H : Heap) (locs : List Loc) (ls : Array Slot), wX1_worthOf_57  post  x1 x2 x4 st → Cx D (wM o ad d) A s st H locs → lv_has ls 6 [(0, .ref o), (1, .int x1), (2, .long x2), (4, .long x4)] → W p l e (headSpec (ws_ yX1_worthOf cX1_worthOf 6 none) rmX1_worthOf).room s m args below meth c H locs 0 0 (QV below D d E (wM o ad d) A args s 0 0 post) (F0 m 57 ls []) := by
  obtain ⟨hx, hb, hr, hml, hown, hts, hlk, hA, hK, hE⟩ := id F
  intro x1 x2 x4 st H locs ls hw C hl
  unfold wX1_worthOf_57 at hw
  refine lv_aload_n hx hb dX1_worthOf_57 rfl (lv_at hl 0 rfl) ?_
  refine lv_iconst (v := 0) hx hb dX1_worthOf_58 (by decide) ?_
  refine lv_iconst (v := 0) hx hb dX1_worthOf_59 (by decide) ?_
  refine x_callV (rest := []) (ci := 5) (q := (RX1, TX1, 55)) F C (ctX1_spreadOf hE hw) (cwV 2 hts (lw_V q1216 q1218 qs64 q71 q1219) rfl rfl rfl (by decide +kernel) ⟨Nat.le_of_ble_eq_true rfl, Nat.le_of_ble_eq_true rfl⟩) rfl rfl rfl hl.1 rfl (Nat.le_of_ble_eq_true rfl) dX1_worthOf_60 ⟨Nat.zero_le _, Nat.zero_le _⟩ (fun s_10 H locs hw C => ?_)
  refine lv_aload_n hx hb dX1_worthOf_63 rfl (lv_at hl 0 rfl) ?_
  refine lv_aload_n hx hb dX1_worthOf_64 rfl (lv_at hl 0 rfl) ?_
  refine x1_g28 F C dX1_worthOf_65 ?_
  refine lv_aload_n hx hb dX1_worthOf_68 rfl (lv_at hl 0 rfl) ?_
  refine x1_g29 F C dX1_worthOf_69 ?_
  refine lv_lload_n hx hb dX1_worthOf_72 rfl (lv_at hl 2 rfl) ?_
  refine lv_lneg hx hb dX1_worthOf_73 ?_
  refine lv_lload hx hb dX1_worthOf_74 (lv_at hl 3 rfl) ?_
  refine x_callV (rest := []) (ci := 5) (q := (RX1, TX1, 55)) F C (ctX1_add hE hw) (cwV 4 hts (lw_V q1162 q1164 qs56 q71 q1165) rfl rfl rfl (by decide +kernel) ⟨Nat.le_of_ble_eq_true rfl, Nat.le_of_ble_eq_true rfl⟩) rfl rfl rfl hl.1 rfl (Nat.le_of_ble_eq_true rfl) dX1_worthOf_76 ⟨Nat.zero_le _, Nat.zero_le _⟩ (fun s_12 H locs hw C => ?_)
  refine lv_aload_n hx hb dX1_worthOf_79 rfl (lv_at hl 0 rfl) ?_
  refine lv_aload_n hx hb dX1_worthOf_80 rfl (lv_at hl 0 rfl) ?_
  refine x1_g28 F C dX1_worthOf_81 ?_
  refine x1_p48 F C dX1_worthOf_84 (fun H locs s_14 es_14 C => ?_)
  have hw := hw s_14 es_14
  refine lv_aload_n hx hb dX1_worthOf_87 rfl (lv_at hl 0 rfl) ?_
  refine lv_aload_n hx hb dX1_worthOf_88 rfl (lv_at hl 0 rfl) ?_
  refine x1_g29 F C dX1_worthOf_89 ?_
  refine lv_aload_n hx hb dX1_worthOf_92 rfl (lv_at hl 0 rfl) ?_
  refine x1_g11 F C dX1_worthOf_93 ?_
  refine lv_aload_n hx hb dX1_worthOf_96 rfl (lv_at hl 0 rfl) ?_
  refine x1_g37 F C dX1_worthOf_97 ?_
  refine lv_iload_n hx hb dX1_worthOf_100 rfl (lv_at hl 1 rfl) ?_
  obtain ⟨h_15, hw⟩ := hw
  refine x1_ld37 F C h_15 dX1_worthOf_101 ?_
  obtain ⟨h_16, hw⟩ := hw
  refine x1_ld11 F C h_16 dX1_worthOf_102 ?_
  refine lv_i2l (v := (sA s_14 11 (sA s_14 37 x1.toNatClampNeg).toNatClampNeg).toInt64) hx hb dX1_worthOf_103 rfl ?_
  refine lv_lmul hx hb dX1_worthOf_104 ?_
  refine x1_p49 F C dX1_worthOf_105 (fun H locs s_17 es_17 C => ?_)
  have hw := hw s_17 es_17
  exact x_vret F C hw dX1_worthOf_108
theorem ctX1_worthOf (hE : Em E)  {post : CS → Prop} {s0 : CS} {p0 : Int32} (hw : wpX1_worthOf  post s0 p0) : CtV l yX1_worthOf (ws_ yX1_worthOf cX1_worthOf 6 none) rmX1_worthOf D d E (wM o ad d) 0 0 [.ref o, .int p0] s0 post := by
  refine CtV.of hE (by decide) rfl (Nat.le_of_ble_eq_true rfl) ?_
  intro p e s m below meth c A ls F C hl
  have hl : lv_has ls 6 [(0, .ref o), (1, .int p0)] := hl
  unfold wpX1_worthOf at hw
  obtain ⟨hx, hb, hr, hml, hown, hts, hlk, hA, hK, -⟩ := id F
  refine lv_aload_n hx hb dX1_worthOf_0 rfl (lv_at hl 0 rfl) ?_
  refine lv_iconst (v := 1) hx hb dX1_worthOf_1 (by decide) ?_
  refine lv_iload_n hx hb dX1_worthOf_2 rfl (lv_at hl 1 rfl) ?_
  refine lv_ishl hx hb dX1_worthOf_3 ?_
  refine lv_iconst (v := 1) hx hb dX1_worthOf_4 (by decide) ?_
  refine lv_iload_n hx hb dX1_worthOf_5 rfl (lv_at hl 1 rfl) ?_
  refine lv_ishl hx hb dX1_worthOf_6 ?_
  refine x_callV (rest := []) (ci := 5) (q := (RX1, TX1, 55)) F C (ctX1_spreadOf hE hw) (cwV 2 hts (lw_V q1216 q1218 qs64 q71 q1219) rfl rfl rfl (by decide +kernel) ⟨Nat.le_of_ble_eq_true rfl, Nat.le_of_ble_eq_true rfl⟩) rfl rfl rfl hl.1 rfl (Nat.le_of_ble_eq_true rfl) dX1_worthOf_7 ⟨Nat.zero_le _, Nat.zero_le _⟩ (fun s_1 H locs hw C => ?_)
  refine lv_aload_n hx hb dX1_worthOf_10 rfl (lv_at hl 0 rfl) ?_
  refine x1_g28 F C dX1_worthOf_11 ?_
  refine lv_topl (fun x2_3 ex2_3 => ?_)
  have hw := hw x2_3 ex2_3
  refine lv_lstore_n (lv' := [(2, .long x2_3), (0, .ref o), (1, .int p0)]) hx hb dX1_worthOf_14 rfl hl (by decide) rfl (fun ls hl => ?_)
  refine lv_aload_n hx hb dX1_worthOf_15 rfl (lv_at hl 1 rfl) ?_
  refine x1_g29 F C dX1_worthOf_16 ?_
  refine lv_topl (fun x4_4 ex4_4 => ?_)
  have hw := hw x4_4 ex4_4
  refine lv_lstore (lv' := [(4, .long x4_4), (2, .long x2_3), (0, .ref o), (1, .int p0)]) hx hb dX1_worthOf_19 hl (by decide) rfl (fun ls hl => ?_)
  refine lv_aload_n hx hb dX1_worthOf_21 rfl (lv_at hl 2 rfl) ?_
  refine lv_iconst (v := 1) hx hb dX1_worthOf_22 (by decide) ?_
  refine lv_iload_n hx hb dX1_worthOf_23 rfl (lv_at hl 3 rfl) ?_
  refine lv_ishl hx hb dX1_worthOf_24 ?_
  refine lv_iconst (v := 0) hx hb dX1_worthOf_25 (by decide) ?_
  refine x_callV (rest := []) (ci := 5) (q := (RX1, TX1, 55)) F C (ctX1_spreadOf hE hw) (cwV 2 hts (lw_V q1216 q1218 qs64 q71 q1219) rfl rfl rfl (by decide +kernel) ⟨Nat.le_of_ble_eq_true rfl, Nat.le_of_ble_eq_true rfl⟩) rfl rfl rfl hl.1 rfl (Nat.le_of_ble_eq_true rfl) dX1_worthOf_26 ⟨Nat.zero_le _, Nat.zero_le _⟩ (fun s_5 H locs hw C => ?_)
  refine lv_lload_n hx hb dX1_worthOf_29 rfl (lv_at hl 1 rfl) ?_
  refine lv_lload hx hb dX1_worthOf_30 (lv_at hl 0 rfl) ?_
  refine lv_aload_n hx hb dX1_worthOf_32 rfl (lv_at hl 2 rfl) ?_
  refine x1_g28 F C dX1_worthOf_33 ?_
  refine lv_aload_n hx hb dX1_worthOf_36 rfl (lv_at hl 2 rfl) ?_
  refine x1_g29 F C dX1_worthOf_37 ?_
  refine x_callSI (rest := []) F C (ctX1_isBelow hE hw) (va_cwS 4 hts (lw_S q1209 q1210 q71 q1211) rfl rfl rfl (by decide +kernel) ⟨Nat.le_of_ble_eq_true rfl, Nat.le_of_ble_eq_true rfl⟩) rfl hl.1 rfl (Nat.le_of_ble_eq_true rfl) dX1_worthOf_40 ⟨Nat.zero_le _, Nat.zero_le _⟩ (fun r_8 s_7 H locs hw C => ?_)
  refine lv_if_eq (tgt := 57) hx hb dX1_worthOf_43 (by decide) (fun c_9 => ?_) (fun c_9 => ?_)
  · have hw := hw.1 c_9
    exact kX1_worthOf_57  F  p0 x2_3 x4_4 s_7 _ _ _ hw C (lv_sub hl [2, 3, 1, 0] rfl)
  · have hw := hw.2 c_9
    refine lv_aload_n hx hb dX1_worthOf_46 rfl (lv_at hl 2 rfl) ?_
    refine x1_g28 F C dX1_worthOf_47 ?_
    refine lv_topl (fun x2_18 ex2_18 => ?_)
    have hw := hw x2_18 ex2_18
    refine lv_lstore_n (lv' := [(2, .long x2_18), (4, .long x4_4), (0, .ref o), (1, .int p0)]) hx hb dX1_worthOf_50 rfl hl (by decide) rfl (fun ls hl => ?_)
    refine lv_aload_n hx hb dX1_worthOf_51 rfl (lv_at hl 2 rfl) ?_
    refine x1_g29 F C dX1_worthOf_52 ?_
    refine lv_topl (fun x4_19 ex4_19 => ?_)
    have hw := hw x4_19 ex4_19
    refine lv_lstore (lv' := [(4, .long x4_19), (2, .long x2_18), (0, .ref o), (1, .int p0)]) hx hb dX1_worthOf_55 hl (by decide) rfl (fun ls hl => ?_)
    exact kX1_worthOf_57  F  p0 x2_18 x4_19 s_7 _ _ _ hw C (lv_sub hl [2, 3, 1, 0] rfl)

abbrev rmX1_worth : Room := { frames := 8, cells := 0, slots := 0, locals := 215 }
def wX1_worth_25  (post : Int32 → CS → Prop)  : Nat → Int32 → Int32 → CS → Prop
  | 0 => fun _ _ _ => False
  | n + 1 => fun x2 x4 st => (((sI st 36) ≤ x4 → (wpX1_meets (fun r_9 s_8 => (post r_9 s_8)) st 3)) ∧ (¬ (sI st 36) ≤ x4 → (vp_in x4 40 ∧ (((sA st 37 x4.toNatClampNeg) = x2 → (wpX1_worthOf (fun s_13 => (wpX1_tell (fun r_16 s_15 => (post r_16 s_15)) s_13 (sL s_13 48) (sL s_13 49))) st x4)) ∧ (¬ (sA st 37 x4.toNatClampNeg) = x2 → (∀ x4_12 : Int32, x4_12 = x4 + 1 → (wX1_worth_25  post  n x2 x4_12 st)))))))
def wpX1_worth  (post : Int32 → CS → Prop) (s0 : CS) (p0 : Int32) (p1 : Int32) : Prop := (wpX1_isLine (fun r_2 s_1 => ((r_2 = 0 → (post (-1) s_1)) ∧ (¬ r_2 = 0 → (wpX1_askedOpen (fun r_5 s_4 => ((0 ≤ r_5 → (∃ fu : Nat, wX1_worth_25  post  fu p1 0 s_4)) ∧ (¬ 0 ≤ r_5 → (post r_5 s_4)))) s_1 p0)))) s0 p1)
set_option maxHeartbeats 4000000 in
theorem kX1_worth_25  {post : Int32 → CS → Prop}  (F : Fx p s m args meth c cX1_worth 5 RX1 (some .int) D d E A) : ∀ (fu : Nat) (x2 : Int32) (x4 : Int32) (st : CS) (H : Heap) (locs : List Loc) (ls : Array Slot), wX1_worth_25  post  fu x2 x4 st → Cx D (wM o ad d) A s st H locs → lv_has ls 5 [(0, .ref o), (2, .int x2), (4, .int x4)] → W p l e (headSpec (ws_ yX1_worth cX1_worth 5 (some .int)) rmX1_worth).room s m args below meth c H locs 0 0 (QI below D d E (wM o ad d) A args s 0 0 post) (F0 m 25 ls []) := by
  obtain ⟨hx, hb, hr, hml, hown, hts, hlk, hA, hK, hE⟩ := id F
  intro fu
  induction fu with
  | zero =>
    intro x2 x4 st H locs ls hw
    exact hw.elim
  | succ n ih =>
    have hk25 := ih
    intro x2 x4 st H locs ls hw C hl
    unfold wX1_worth_25 at hw
    refine lv_iload hx hb dX1_worth_25 (lv_at hl 2 rfl) ?_
    refine lv_aload_n hx hb dX1_worth_27 rfl (lv_at hl 0 rfl) ?_
    refine x1_g36 F C dX1_worth_28 ?_
    refine lv_icmp_ge (tgt := 70) hx hb dX1_worth_31 (by decide) (fun c_7 => ?_) (fun c_7 => ?_)
    · have hw := hw.1 c_7
      refine lv_aload_n hx hb dX1_worth_70 rfl (lv_at hl 0 rfl) ?_
      refine lv_iconst (v := 3) hx hb dX1_worth_71 (by decide) ?_
      refine x_callI (rest := []) (ci := 5) (q := (RX1, TX1, 55)) F C (ctX1_meets hE hw) (cwV 1 hts (lw_V q1082 q1084 qs42 q71 q1085) rfl rfl rfl (by decide +kernel) ⟨Nat.le_of_ble_eq_true rfl, Nat.le_of_ble_eq_true rfl⟩) rfl rfl rfl hl.1 rfl (Nat.le_of_ble_eq_true rfl) dX1_worth_72 ⟨Nat.zero_le _, Nat.zero_le _⟩ (fun r_9 s_8 H locs hw C => ?_)
      exact x_iret F C hw dX1_worth_75
    · have hw := hw.2 c_7
      refine lv_aload_n hx hb dX1_worth_34 rfl (lv_at hl 0 rfl) ?_
      refine x1_g37 F C dX1_worth_35 ?_
      refine lv_iload hx hb dX1_worth_38 (lv_at hl 2 rfl) ?_
      obtain ⟨h_10, hw⟩ := hw
      refine x1_ld37 F C h_10 dX1_worth_40 ?_
      refine lv_iload_n hx hb dX1_worth_41 rfl (lv_at hl 1 rfl) ?_
      refine lv_icmp_ne (tgt := 64) hx hb dX1_worth_42 (by decide) (fun c_11 => ?_) (fun c_11 => ?_)
      · have hw := hw.2 c_11
        obtain ⟨x4_12, ex4_12⟩ : ∃ y : Int32, y = x4 + 1 := ⟨_, rfl⟩
        have hw := hw x4_12 ex4_12
        refine lv_iinc (v := x4_12) (lv' := [(4, .int x4_12), (0, .ref o), (2, .int x2)]) hx hb dX1_worth_64 hl (k := 2) rfl (by rw [ex4_12]; rfl) (by decide) rfl (fun ls hl => ?_)
        refine lv_goto (tgt := 25) hx hb dX1_worth_67 (by decide) ?_
        exact hk25 x2 x4_12 st _ _ _ hw C (lv_sub hl [1, 2, 0] rfl)
      · have hw := hw.1 c_11
        refine lv_aload_n hx hb dX1_worth_45 rfl (lv_at hl 0 rfl) ?_
        refine lv_iload hx hb dX1_worth_46 (lv_at hl 2 rfl) ?_
        refine x_callV (rest := []) (ci := 5) (q := (RX1, TX1, 55)) F C (ctX1_worthOf hE hw) (cwV 1 hts (lw_V q1224 q1226 qs65 q71 q1227) rfl rfl rfl (by decide +kernel) ⟨Nat.le_of_ble_eq_true rfl, Nat.le_of_ble_eq_true rfl⟩) rfl rfl rfl hl.1 rfl (Nat.le_of_ble_eq_true rfl) dX1_worth_48 ⟨Nat.zero_le _, Nat.zero_le _⟩ (fun s_13 H locs hw C => ?_)
        refine lv_aload_n hx hb dX1_worth_51 rfl (lv_at hl 0 rfl) ?_
        refine lv_aload_n hx hb dX1_worth_52 rfl (lv_at hl 0 rfl) ?_
        refine x1_g48 F C dX1_worth_53 ?_
        refine lv_aload_n hx hb dX1_worth_56 rfl (lv_at hl 0 rfl) ?_
        refine x1_g49 F C dX1_worth_57 ?_
        refine x_callI (rest := []) (ci := 5) (q := (RX1, TX1, 55)) F C (ctX1_tell hE hw) (cwV 2 hts (lw_V q1181 q1183 qs60 q71 q1184) rfl rfl rfl (by decide +kernel) ⟨Nat.le_of_ble_eq_true rfl, Nat.le_of_ble_eq_true rfl⟩) rfl rfl rfl hl.1 rfl (Nat.le_of_ble_eq_true rfl) dX1_worth_60 ⟨Nat.zero_le _, Nat.zero_le _⟩ (fun r_16 s_15 H locs hw C => ?_)
        exact x_iret F C hw dX1_worth_63
theorem ctX1_worth (hE : Em E)  {post : Int32 → CS → Prop} {s0 : CS} {p0 p1 : Int32} (hw : wpX1_worth  post s0 p0 p1) : CtI l yX1_worth (ws_ yX1_worth cX1_worth 5 (some .int)) rmX1_worth D d E (wM o ad d) 0 0 [.ref o, .int p0, .int p1] s0 post := by
  refine CtI.of hE (by decide) rfl (Nat.le_of_ble_eq_true rfl) ?_
  intro p e s m below meth c A ls F C hl
  have hl : lv_has ls 5 [(0, .ref o), (1, .int p0), (2, .int p1)] := hl
  unfold wpX1_worth at hw
  obtain ⟨hx, hb, hr, hml, hown, hts, hlk, hA, hK, -⟩ := id F
  refine lv_aload_n hx hb dX1_worth_0 rfl (lv_at hl 0 rfl) ?_
  refine lv_iload_n hx hb dX1_worth_1 rfl (lv_at hl 2 rfl) ?_
  refine x_callI (rest := []) (ci := 5) (q := (RX1, TX1, 55)) F C (ctX1_isLine hE hw) (cwV 1 hts (lw_V q1070 q1072 qs40 q71 q1073) rfl rfl rfl (by decide +kernel) ⟨Nat.le_of_ble_eq_true rfl, Nat.le_of_ble_eq_true rfl⟩) rfl rfl rfl hl.1 rfl (Nat.le_of_ble_eq_true rfl) dX1_worth_2 ⟨Nat.zero_le _, Nat.zero_le _⟩ (fun r_2 s_1 H locs hw C => ?_)
  refine lv_if_ne (tgt := 10) hx hb dX1_worth_5 (by decide) (fun c_3 => ?_) (fun c_3 => ?_)
  · have hw := hw.2 c_3
    refine lv_aload_n hx hb dX1_worth_10 rfl (lv_at hl 0 rfl) ?_
    refine lv_iload_n hx hb dX1_worth_11 rfl (lv_at hl 1 rfl) ?_
    refine x_callI (rest := []) (ci := 5) (q := (RX1, TX1, 55)) F C (ctX1_askedOpen hE hw) (cwV 1 hts (lw_V q1197 q1199 qs61 q71 q1200) rfl rfl rfl (by decide +kernel) ⟨Nat.le_of_ble_eq_true rfl, Nat.le_of_ble_eq_true rfl⟩) rfl rfl rfl hl.1 rfl (Nat.le_of_ble_eq_true rfl) dX1_worth_12 ⟨Nat.zero_le _, Nat.zero_le _⟩ (fun r_5 s_4 H locs hw C => ?_)
    refine lv_istore_n (lv' := [(3, .int r_5), (0, .ref o), (1, .int p0), (2, .int p1)]) hx hb dX1_worth_15 rfl hl (by decide) rfl (fun ls hl => ?_)
    refine lv_iload_n hx hb dX1_worth_16 rfl (lv_at hl 0 rfl) ?_
    refine lv_if_ge (tgt := 22) hx hb dX1_worth_17 (by decide) (fun c_6 => ?_) (fun c_6 => ?_)
    · have hw := hw.1 c_6
      refine lv_iconst (v := 0) hx hb dX1_worth_22 (by decide) ?_
      refine lv_istore (lv' := [(4, .int 0), (3, .int r_5), (0, .ref o), (1, .int p0), (2, .int p1)]) hx hb dX1_worth_23 hl (by decide) rfl (fun ls hl => ?_)
      obtain ⟨fu, hw⟩ := hw
      exact kX1_worth_25  F  fu p1 0 s_4 _ _ _ hw C (lv_sub hl [2, 4, 0] rfl)
    · have hw := hw.2 c_6
      refine lv_iload_n hx hb dX1_worth_20 rfl (lv_at hl 0 rfl) ?_
      exact x_iret F C hw dX1_worth_21
  · have hw := hw.1 c_3
    refine lv_iconst (v := (-1)) hx hb dX1_worth_8 (by decide) ?_
    exact x_iret F C hw dX1_worth_9

abbrev rmX1_look : Room := { frames := 8, cells := 0, slots := 0, locals := 215 }
def wX1_look_81  (post : Int32 → CS → Prop) (k24 : Int32 → Int64 → Int64 → Int32 → CS → Prop) (x3 : Int32) (x4 : Int64) (x6 : Int64) (x8 : Int32) (st : CS) : Prop := (∀ x8_12 : Int32, x8_12 = x8 + 1 → (k24 x3 x4 x6 x8_12 st))
def wX1_look_61  (post : Int32 → CS → Prop) (k24 : Int32 → Int64 → Int64 → Int32 → CS → Prop) (x8 : Int32) (st : CS) : Prop := (vp_in x8 40 ∧ (∀ x3_9 : Int32, x3_9 = (sA st 37 x8.toNatClampNeg) → (∀ x4_10 : Int64, x4_10 = (sL st 48) → (∀ x6_11 : Int64, x6_11 = (sL st 49) → (wX1_look_81  post k24 x3_9 x4_10 x6_11 x8 st)))))
def wX1_look_24  (post : Int32 → CS → Prop)  : Nat → Int32 → Int64 → Int64 → Int32 → CS → Prop
  | 0 => fun _ _ _ _ _ => False
  | n + 1 => fun x3 x4 x6 x8 st => (((sI st 36) ≤ x8 → (post x3 st)) ∧ (¬ (sI st 36) ≤ x8 → (wpX1_worthOf (fun s_5 => ((x3 < 0 → (wX1_look_61  post (wX1_look_24  post  n) x8 s_5)) ∧ (¬ x3 < 0 → (wpX1_isBelow (fun r_14 s_13 => ((r_14 = 0 → (wX1_look_81  post (wX1_look_24  post  n) x3 x4 x6 x8 s_13)) ∧ (¬ r_14 = 0 → (wX1_look_61  post (wX1_look_24  post  n) x8 s_13)))) s_5 x4 x6 (sL s_5 48) (sL s_5 49))))) st x8)))
def wpX1_look  (post : Int32 → CS → Prop) (s0 : CS) (p0 : Int32) : Prop := (wpX1_askedOpen (fun r_2 s_1 => ((0 ≤ r_2 → (∃ fu : Nat, wX1_look_24  post  fu (-9) 0 1 0 s_1)) ∧ (¬ 0 ≤ r_2 → (post r_2 s_1)))) s0 p0)
set_option maxHeartbeats 4000000 in
theorem kX1_look_81  {post : Int32 → CS → Prop} {k24 : Int32 → Int64 → Int64 → Int32 → CS → Prop} (F : Fx p s m args meth c cX1_look 9 RX1 (some .int) D d E A) (hk24 : ∀ (x3 : Int32) (x4 : Int64) (x6 : Int64) (x8 : Int32) (st : CS) (H : Heap) (locs : List Loc) (ls : Array Slot), k24 x3 x4 x6 x8 st → Cx D (wM o ad d) A s st H locs → lv_has ls 9 [(0, .ref o), (3, .int x3), (4, .long x4), (6, .long x6), (8, .int x8)] → W p l e (headSpec (ws_ yX1_look cX1_look 9 (some .int)) rmX1_look).room s m args below meth c H locs 0 0 (QI below D d E (wM o ad d) A args s 0 0 post) (F0 m 24 ls [])) : ∀ (x3 : Int32) (x4 : Int64) (x6 : Int64) (x8 : Int32) (st : CS) (H : Heap) (locs : List Loc) (ls : Array Slot), wX1_look_81  post k24 x3 x4 x6 x8 st → Cx D (wM o ad d) A s st H locs → lv_has ls 9 [(0, .ref o), (3, .int x3), (4, .long x4), (6, .long x6), (8, .int x8)] → W p l e (headSpec (ws_ yX1_look cX1_look 9 (some .int)) rmX1_look).room s m args below meth c H locs 0 0 (QI below D d E (wM o ad d) A args s 0 0 post) (F0 m 81 ls []) := by
  obtain ⟨hx, hb, hr, hml, hown, hts, hlk, hA, hK, hE⟩ := id F
  intro x3 x4 x6 x8 st H locs ls hw C hl
  unfold wX1_look_81 at hw
  obtain ⟨x8_12, ex8_12⟩ : ∃ y : Int32, y = x8 + 1 := ⟨_, rfl⟩
  have hw := hw x8_12 ex8_12
  refine lv_iinc (v := x8_12) (lv' := [(8, .int x8_12), (0, .ref o), (3, .int x3), (4, .long x4), (6, .long x6)]) hx hb dX1_look_81 hl (k := 4) rfl (by rw [ex8_12]; rfl) (by decide) rfl (fun ls hl => ?_)
  refine lv_goto (tgt := 24) hx hb dX1_look_84 (by decide) ?_
  exact hk24 x3 x4 x6 x8_12 st _ _ _ hw C (lv_sub hl [1, 2, 3, 4, 0] rfl)
set_option maxHeartbeats 4000000 in
theorem kX1_look_61  {post : Int32 → CS → Prop} {k24 : Int32 → Int64 → Int64 → Int32 → CS → Prop} (F : Fx p s m args meth c cX1_look 9 RX1 (some .int) D d E A) (hk24 : ∀ (x3 : Int32) (x4 : Int64) (x6 : Int64) (x8 : Int32) (st : CS) (H : Heap) (locs : List Loc) (ls : Array Slot), k24 x3 x4 x6 x8 st → Cx D (wM o ad d) A s st H locs → lv_has ls 9 [(0, .ref o), (3, .int x3), (4, .long x4), (6, .long x6), (8, .int x8)] → W p l e (headSpec (ws_ yX1_look cX1_look 9 (some .int)) rmX1_look).room s m args below meth c H locs 0 0 (QI below D d E (wM o ad d) A args s 0 0 post) (F0 m 24 ls [])) : ∀ (x8 : Int32) (st : CS) (H : Heap) (locs : List Loc) (ls : Array Slot), wX1_look_61  post k24 x8 st → Cx D (wM o ad d) A s st H locs → lv_has ls 9 [(0, .ref o), (8, .int x8)] → W p l e (headSpec (ws_ yX1_look cX1_look 9 (some .int)) rmX1_look).room s m args below meth c H locs 0 0 (QI below D d E (wM o ad d) A args s 0 0 post) (F0 m 61 ls []) := by
  obtain ⟨hx, hb, hr, hml, hown, hts, hlk, hA, hK, hE⟩ := id F
  intro x8 st H locs ls hw C hl
  unfold wX1_look_61 at hw
  refine lv_aload_n hx hb dX1_look_61 rfl (lv_at hl 0 rfl) ?_
  refine x1_g37 F C dX1_look_62 ?_
  refine lv_iload hx hb dX1_look_65 (lv_at hl 1 rfl) ?_
  obtain ⟨h_8, hw⟩ := hw
  refine x1_ld37 F C h_8 dX1_look_67 ?_
  refine lv_topi (fun x3_9 ex3_9 => ?_)
  have hw := hw x3_9 ex3_9
  refine lv_istore_n (lv' := [(3, .int x3_9), (0, .ref o), (8, .int x8)]) hx hb dX1_look_68 rfl hl (by decide) rfl (fun ls hl => ?_)
  refine lv_aload_n hx hb dX1_look_69 rfl (lv_at hl 1 rfl) ?_
  refine x1_g48 F C dX1_look_70 ?_
  refine lv_topl (fun x4_10 ex4_10 => ?_)
  have hw := hw x4_10 ex4_10
  refine lv_lstore (lv' := [(4, .long x4_10), (3, .int x3_9), (0, .ref o), (8, .int x8)]) hx hb dX1_look_73 hl (by decide) rfl (fun ls hl => ?_)
  refine lv_aload_n hx hb dX1_look_75 rfl (lv_at hl 2 rfl) ?_
  refine x1_g49 F C dX1_look_76 ?_
  refine lv_topl (fun x6_11 ex6_11 => ?_)
  have hw := hw x6_11 ex6_11
  refine lv_lstore (lv' := [(6, .long x6_11), (4, .long x4_10), (3, .int x3_9), (0, .ref o), (8, .int x8)]) hx hb dX1_look_79 hl (by decide) rfl (fun ls hl => ?_)
  exact kX1_look_81  F hk24 x3_9 x4_10 x6_11 x8 st _ _ _ hw C (lv_sub hl [3, 2, 1, 0, 4] rfl)
set_option maxHeartbeats 4000000 in
theorem kX1_look_24  {post : Int32 → CS → Prop}  (F : Fx p s m args meth c cX1_look 9 RX1 (some .int) D d E A) : ∀ (fu : Nat) (x3 : Int32) (x4 : Int64) (x6 : Int64) (x8 : Int32) (st : CS) (H : Heap) (locs : List Loc) (ls : Array Slot), wX1_look_24  post  fu x3 x4 x6 x8 st → Cx D (wM o ad d) A s st H locs → lv_has ls 9 [(0, .ref o), (3, .int x3), (4, .long x4), (6, .long x6), (8, .int x8)] → W p l e (headSpec (ws_ yX1_look cX1_look 9 (some .int)) rmX1_look).room s m args below meth c H locs 0 0 (QI below D d E (wM o ad d) A args s 0 0 post) (F0 m 24 ls []) := by
  obtain ⟨hx, hb, hr, hml, hown, hts, hlk, hA, hK, hE⟩ := id F
  intro fu
  induction fu with
  | zero =>
    intro x3 x4 x6 x8 st H locs ls hw
    exact hw.elim
  | succ n ih =>
    have hk24 := ih
    intro x3 x4 x6 x8 st H locs ls hw C hl
    unfold wX1_look_24 at hw
    refine lv_iload hx hb dX1_look_24 (lv_at hl 4 rfl) ?_
    refine lv_aload_n hx hb dX1_look_26 rfl (lv_at hl 0 rfl) ?_
    refine x1_g36 F C dX1_look_27 ?_
    refine lv_icmp_ge (tgt := 87) hx hb dX1_look_30 (by decide) (fun c_4 => ?_) (fun c_4 => ?_)
    · have hw := hw.1 c_4
      refine lv_iload_n hx hb dX1_look_87 rfl (lv_at hl 1 rfl) ?_
      exact x_iret F C hw dX1_look_88
    · have hw := hw.2 c_4
      refine lv_aload_n hx hb dX1_look_33 rfl (lv_at hl 0 rfl) ?_
      refine lv_iload hx hb dX1_look_34 (lv_at hl 4 rfl) ?_
      refine x_callV (rest := []) (ci := 5) (q := (RX1, TX1, 55)) F C (ctX1_worthOf hE hw) (cwV 1 hts (lw_V q1224 q1226 qs65 q71 q1227) rfl rfl rfl (by decide +kernel) ⟨Nat.le_of_ble_eq_true rfl, Nat.le_of_ble_eq_true rfl⟩) rfl rfl rfl hl.1 rfl (Nat.le_of_ble_eq_true rfl) dX1_look_36 ⟨Nat.zero_le _, Nat.zero_le _⟩ (fun s_5 H locs hw C => ?_)
      refine lv_iload_n hx hb dX1_look_39 rfl (lv_at hl 1 rfl) ?_
      refine lv_if_lt (tgt := 61) hx hb dX1_look_40 (by decide) (fun c_7 => ?_) (fun c_7 => ?_)
      · have hw := hw.1 c_7
        exact kX1_look_61  F hk24 x8 s_5 _ _ _ hw C (lv_sub hl [0, 4] rfl)
      · have hw := hw.2 c_7
        refine lv_lload hx hb dX1_look_43 (lv_at hl 2 rfl) ?_
        refine lv_lload hx hb dX1_look_45 (lv_at hl 3 rfl) ?_
        refine lv_aload_n hx hb dX1_look_47 rfl (lv_at hl 0 rfl) ?_
        refine x1_g48 F C dX1_look_48 ?_
        refine lv_aload_n hx hb dX1_look_51 rfl (lv_at hl 0 rfl) ?_
        refine x1_g49 F C dX1_look_52 ?_
        refine x_callSI (rest := []) F C (ctX1_isBelow hE hw) (va_cwS 4 hts (lw_S q1209 q1210 q71 q1211) rfl rfl rfl (by decide +kernel) ⟨Nat.le_of_ble_eq_true rfl, Nat.le_of_ble_eq_true rfl⟩) rfl hl.1 rfl (Nat.le_of_ble_eq_true rfl) dX1_look_55 ⟨Nat.zero_le _, Nat.zero_le _⟩ (fun r_14 s_13 H locs hw C => ?_)
        refine lv_if_eq (tgt := 81) hx hb dX1_look_58 (by decide) (fun c_15 => ?_) (fun c_15 => ?_)
        · have hw := hw.1 c_15
          exact kX1_look_81  F hk24 x3 x4 x6 x8 s_13 _ _ _ hw C hl
        · have hw := hw.2 c_15
          exact kX1_look_61  F hk24 x8 s_13 _ _ _ hw C (lv_sub hl [0, 4] rfl)
theorem ctX1_look (hE : Em E)  {post : Int32 → CS → Prop} {s0 : CS} {p0 : Int32} (hw : wpX1_look  post s0 p0) : CtI l yX1_look (ws_ yX1_look cX1_look 9 (some .int)) rmX1_look D d E (wM o ad d) 0 0 [.ref o, .int p0] s0 post := by
  refine CtI.of hE (by decide) rfl (Nat.le_of_ble_eq_true rfl) ?_
  intro p e s m below meth c A ls F C hl
  have hl : lv_has ls 9 [(0, .ref o), (1, .int p0)] := hl
  unfold wpX1_look at hw
  obtain ⟨hx, hb, hr, hml, hown, hts, hlk, hA, hK, -⟩ := id F
  refine lv_aload_n hx hb dX1_look_0 rfl (lv_at hl 0 rfl) ?_
  refine lv_iload_n hx hb dX1_look_1 rfl (lv_at hl 1 rfl) ?_
  refine x_callI (rest := []) (ci := 5) (q := (RX1, TX1, 55)) F C (ctX1_askedOpen hE hw) (cwV 1 hts (lw_V q1197 q1199 qs61 q71 q1200) rfl rfl rfl (by decide +kernel) ⟨Nat.le_of_ble_eq_true rfl, Nat.le_of_ble_eq_true rfl⟩) rfl rfl rfl hl.1 rfl (Nat.le_of_ble_eq_true rfl) dX1_look_2 ⟨Nat.zero_le _, Nat.zero_le _⟩ (fun r_2 s_1 H locs hw C => ?_)
  refine lv_istore_n (lv' := [(2, .int r_2), (0, .ref o), (1, .int p0)]) hx hb dX1_look_5 rfl hl (by decide) rfl (fun ls hl => ?_)
  refine lv_iload_n hx hb dX1_look_6 rfl (lv_at hl 0 rfl) ?_
  refine lv_if_ge (tgt := 12) hx hb dX1_look_7 (by decide) (fun c_3 => ?_) (fun c_3 => ?_)
  · have hw := hw.1 c_3
    refine lv_bipush (v := (-9)) hx hb dX1_look_12 (by decide) ?_
    refine lv_istore_n (lv' := [(3, .int (-9)), (2, .int r_2), (0, .ref o), (1, .int p0)]) hx hb dX1_look_14 rfl hl (by decide) rfl (fun ls hl => ?_)
    refine lv_lconst (v := 0) hx hb dX1_look_15 (by decide) ?_
    refine lv_lstore (lv' := [(4, .long 0), (3, .int (-9)), (2, .int r_2), (0, .ref o), (1, .int p0)]) hx hb dX1_look_16 hl (by decide) rfl (fun ls hl => ?_)
    refine lv_lconst (v := 1) hx hb dX1_look_18 (by decide) ?_
    refine lv_lstore (lv' := [(6, .long 1), (4, .long 0), (3, .int (-9)), (2, .int r_2), (0, .ref o), (1, .int p0)]) hx hb dX1_look_19 hl (by decide) rfl (fun ls hl => ?_)
    refine lv_iconst (v := 0) hx hb dX1_look_21 (by decide) ?_
    refine lv_istore (lv' := [(8, .int 0), (6, .long 1), (4, .long 0), (3, .int (-9)), (2, .int r_2), (0, .ref o), (1, .int p0)]) hx hb dX1_look_22 hl (by decide) rfl (fun ls hl => ?_)
    obtain ⟨fu, hw⟩ := hw
    exact kX1_look_24  F  fu (-9) 0 1 0 s_1 _ _ _ hw C (lv_sub hl [5, 3, 2, 1, 0] rfl)
  · have hw := hw.2 c_3
    refine lv_iload_n hx hb dX1_look_10 rfl (lv_at hl 0 rfl) ?_
    exact x_iret F C hw dX1_look_11

abbrev rmX1_open : Room := { frames := 1, cells := 0, slots := 0, locals := 21 }
def wpX1_open  (post : Int32 → CS → Prop) (s0 : CS)  : Prop := (wpX1_setOpen (fun s_1 => (post (sI s_1 36) s_1)) s0 )
theorem ctX1_open (hE : Em E)  {post : Int32 → CS → Prop} {s0 : CS}  (hw : wpX1_open  post s0 ) : CtI l yX1_open (ws_ yX1_open cX1_open 1 (some .int)) rmX1_open D d E (wM o ad d) 0 0 [.ref o] s0 post := by
  refine CtI.of hE (by decide) rfl (Nat.le_of_ble_eq_true rfl) ?_
  intro p e s m below meth c A ls F C hl
  have hl : lv_has ls 1 [(0, .ref o)] := hl
  unfold wpX1_open at hw
  obtain ⟨hx, hb, hr, hml, hown, hts, hlk, hA, hK, -⟩ := id F
  refine lv_aload_n hx hb dX1_open_0 rfl (lv_at hl 0 rfl) ?_
  refine x_callV (rest := []) (ci := 5) (q := (RX1, TX1, 55)) F C (ctX1_setOpen hE hw) (cwV 0 hts (lw_V q1126 q1128 qs47 q71 q1129) rfl rfl rfl (by decide +kernel) ⟨Nat.le_of_ble_eq_true rfl, Nat.le_of_ble_eq_true rfl⟩) rfl rfl rfl hl.1 rfl (Nat.le_of_ble_eq_true rfl) dX1_open_1 ⟨Nat.zero_le _, Nat.zero_le _⟩ (fun s_1 H locs hw C => ?_)
  refine lv_aload_n hx hb dX1_open_4 rfl (lv_at hl 0 rfl) ?_
  refine x1_g36 F C dX1_open_5 ?_
  exact x_iret F C hw dX1_open_8

abbrev rmX1_estate : Room := { frames := 3, cells := 0, slots := 0, locals := 64 }
def wpX1_estate  (post : Int32 → CS → Prop) (s0 : CS) (p0 : Int32) (p1 : Int32) : Prop := (wpX1_isDead (fun r_2 s_1 => ((r_2 = 0 → (post (-1) s_1)) ∧ (¬ r_2 = 0 → (wpX1_in (fun r_5 s_4 => ((r_5 = 0 → (post (-1) s_4)) ∧ (¬ r_5 = 0 → (vp_in p0 24 ∧ (∀ x3_8 : Int32, x3_8 = (sA s_4 50 p0.toNatClampNeg) → (vp_in p0 24 ∧ ∀ s_10 : CS, s_10 = uA s_4 50 p0.toNatClampNeg p1 → (post x3_8 s_10))))))) s_1 p1 0 1000000000)))) s0 p0)
theorem ctX1_estate (hE : Em E)  {post : Int32 → CS → Prop} {s0 : CS} {p0 p1 : Int32} (hw : wpX1_estate  post s0 p0 p1) : CtI l yX1_estate (ws_ yX1_estate cX1_estate 4 (some .int)) rmX1_estate D d E (wM o ad d) 0 0 [.ref o, .int p0, .int p1] s0 post := by
  refine CtI.of hE (by decide) rfl (Nat.le_of_ble_eq_true rfl) ?_
  intro p e s m below meth c A ls F C hl
  have hl : lv_has ls 4 [(0, .ref o), (1, .int p0), (2, .int p1)] := hl
  unfold wpX1_estate at hw
  obtain ⟨hx, hb, hr, hml, hown, hts, hlk, hA, hK, -⟩ := id F
  refine lv_aload_n hx hb dX1_estate_0 rfl (lv_at hl 0 rfl) ?_
  refine lv_iload_n hx hb dX1_estate_1 rfl (lv_at hl 1 rfl) ?_
  refine x_callI (rest := []) (ci := 5) (q := (RX1, TX1, 55)) F C (ctX1_isDead hE hw) (cwV 1 hts (lw_V q1110 q1112 qs44 q71 q1113) rfl rfl rfl (by decide +kernel) ⟨Nat.le_of_ble_eq_true rfl, Nat.le_of_ble_eq_true rfl⟩) rfl rfl rfl hl.1 rfl (Nat.le_of_ble_eq_true rfl) dX1_estate_2 ⟨Nat.zero_le _, Nat.zero_le _⟩ (fun r_2 s_1 H locs hw C => ?_)
  refine lv_if_eq (tgt := 19) hx hb dX1_estate_5 (by decide) (fun c_3 => ?_) (fun c_3 => ?_)
  · have hw := hw.1 c_3
    refine lv_iconst (v := (-1)) hx hb dX1_estate_19 (by decide) ?_
    exact x_iret F C hw dX1_estate_20
  · have hw := hw.2 c_3
    refine lv_iload_n hx hb dX1_estate_8 rfl (lv_at hl 2 rfl) ?_
    refine lv_iconst (v := 0) hx hb dX1_estate_9 (by decide) ?_
    refine lv_ldcw hx hb hown (hts _ q1240) dX1_estate_10 ?_
    refine x_callSI (rest := []) F C (ctX1_in hE hw) (va_cwS 3 hts (lw_S q1035 q1036 q71 q1037) rfl rfl rfl (by decide +kernel) ⟨Nat.le_of_ble_eq_true rfl, Nat.le_of_ble_eq_true rfl⟩) rfl hl.1 rfl (Nat.le_of_ble_eq_true rfl) dX1_estate_13 ⟨Nat.zero_le _, Nat.zero_le _⟩ (fun r_5 s_4 H locs hw C => ?_)
    refine lv_if_ne (tgt := 21) hx hb dX1_estate_16 (by decide) (fun c_6 => ?_) (fun c_6 => ?_)
    · have hw := hw.2 c_6
      refine lv_aload_n hx hb dX1_estate_21 rfl (lv_at hl 0 rfl) ?_
      refine x1_g50 F C dX1_estate_22 ?_
      refine lv_iload_n hx hb dX1_estate_25 rfl (lv_at hl 1 rfl) ?_
      obtain ⟨h_7, hw⟩ := hw
      refine x1_ld50 F C h_7 dX1_estate_26 ?_
      refine lv_topi (fun x3_8 ex3_8 => ?_)
      have hw := hw x3_8 ex3_8
      refine lv_istore_n (lv' := [(3, .int x3_8), (0, .ref o), (1, .int p0), (2, .int p1)]) hx hb dX1_estate_27 rfl hl (by decide) rfl (fun ls hl => ?_)
      refine lv_aload_n hx hb dX1_estate_28 rfl (lv_at hl 1 rfl) ?_
      refine x1_g50 F C dX1_estate_29 ?_
      refine lv_iload_n hx hb dX1_estate_32 rfl (lv_at hl 2 rfl) ?_
      refine lv_iload_n hx hb dX1_estate_33 rfl (lv_at hl 3 rfl) ?_
      obtain ⟨h_9, hw⟩ := hw
      refine x1_st50 F C h_9 dX1_estate_34 (fun H locs s_10 es_10 C => ?_)
      have hw := hw s_10 es_10
      refine lv_iload_n hx hb dX1_estate_35 rfl (lv_at hl 0 rfl) ?_
      exact x_iret F C hw dX1_estate_36
    · have hw := hw.1 c_6
      refine lv_iconst (v := (-1)) hx hb dX1_estate_19 (by decide) ?_
      exact x_iret F C hw dX1_estate_20

abbrev rmX1_allPaid : Room := { frames := 0, cells := 0, slots := 0, locals := 0 }
def wX1_allPaid_4  (post : Int32 → CS → Prop)  : Nat → Int32 → Int32 → Int32 → CS → Prop
  | 0 => fun _ _ _ _ => False
  | n + 1 => fun x1 x2 x3 st => ((24 ≤ x3 → (post x2 st)) ∧ (¬ 24 ≤ x3 → (vp_in ((24 * x1) + x3) 576 ∧ (∀ x2_3 : Int32, x2_3 = (x2 + (sA st 51 ((24 * x1) + x3).toNatClampNeg)) → (∀ x3_4 : Int32, x3_4 = x3 + 1 → (wX1_allPaid_4  post  n x1 x2_3 x3_4 st))))))
def wpX1_allPaid  (post : Int32 → CS → Prop) (s0 : CS) (p0 : Int32) : Prop := (∃ fu : Nat, wX1_allPaid_4  post  fu p0 0 0 s0)
set_option maxHeartbeats 4000000 in
theorem kX1_allPaid_4  {post : Int32 → CS → Prop}  (F : Fx p s m args meth c cX1_allPaid 4 RX1 (some .int) D d E A) : ∀ (fu : Nat) (x1 : Int32) (x2 : Int32) (x3 : Int32) (st : CS) (H : Heap) (locs : List Loc) (ls : Array Slot), wX1_allPaid_4  post  fu x1 x2 x3 st → Cx D (wM o ad d) A s st H locs → lv_has ls 4 [(0, .ref o), (1, .int x1), (2, .int x2), (3, .int x3)] → W p l e (headSpec (ws_ yX1_allPaid cX1_allPaid 4 (some .int)) rmX1_allPaid).room s m args below meth c H locs 0 0 (QI below D d E (wM o ad d) A args s 0 0 post) (F0 m 4 ls []) := by
  obtain ⟨hx, hb, hr, hml, hown, hts, hlk, hA, hK, hE⟩ := id F
  intro fu
  induction fu with
  | zero =>
    intro x1 x2 x3 st H locs ls hw
    exact hw.elim
  | succ n ih =>
    have hk4 := ih
    intro x1 x2 x3 st H locs ls hw C hl
    unfold wX1_allPaid_4 at hw
    refine lv_iload_n hx hb dX1_allPaid_4 rfl (lv_at hl 3 rfl) ?_
    refine lv_bipush (v := 24) hx hb dX1_allPaid_5 (by decide) ?_
    refine lv_icmp_ge (tgt := 30) hx hb dX1_allPaid_7 (by decide) (fun c_1 => ?_) (fun c_1 => ?_)
    · have hw := hw.1 c_1
      refine lv_iload_n hx hb dX1_allPaid_30 rfl (lv_at hl 2 rfl) ?_
      exact x_iret F C hw dX1_allPaid_31
    · have hw := hw.2 c_1
      refine lv_iload_n hx hb dX1_allPaid_10 rfl (lv_at hl 2 rfl) ?_
      refine lv_aload_n hx hb dX1_allPaid_11 rfl (lv_at hl 0 rfl) ?_
      refine x1_g51 F C dX1_allPaid_12 ?_
      refine lv_bipush (v := 24) hx hb dX1_allPaid_15 (by decide) ?_
      refine lv_iload_n hx hb dX1_allPaid_17 rfl (lv_at hl 1 rfl) ?_
      refine lv_imul hx hb dX1_allPaid_18 ?_
      refine lv_iload_n hx hb dX1_allPaid_19 rfl (lv_at hl 3 rfl) ?_
      refine lv_iadd hx hb dX1_allPaid_20 ?_
      obtain ⟨h_2, hw⟩ := hw
      refine x1_ld51 F C h_2 dX1_allPaid_21 ?_
      refine lv_iadd hx hb dX1_allPaid_22 ?_
      refine lv_topi (fun x2_3 ex2_3 => ?_)
      have hw := hw x2_3 ex2_3
      refine lv_istore_n (lv' := [(2, .int x2_3), (0, .ref o), (1, .int x1), (3, .int x3)]) hx hb dX1_allPaid_23 rfl hl (by decide) rfl (fun ls hl => ?_)
      obtain ⟨x3_4, ex3_4⟩ : ∃ y : Int32, y = x3 + 1 := ⟨_, rfl⟩
      have hw := hw x3_4 ex3_4
      refine lv_iinc (v := x3_4) (lv' := [(3, .int x3_4), (2, .int x2_3), (0, .ref o), (1, .int x1)]) hx hb dX1_allPaid_24 hl (k := 3) rfl (by rw [ex3_4]; rfl) (by decide) rfl (fun ls hl => ?_)
      refine lv_goto (tgt := 4) hx hb dX1_allPaid_27 (by decide) ?_
      exact hk4 x1 x2_3 x3_4 st _ _ _ hw C (lv_sub hl [2, 3, 1, 0] rfl)
theorem ctX1_allPaid (hE : Em E)  {post : Int32 → CS → Prop} {s0 : CS} {p0 : Int32} (hw : wpX1_allPaid  post s0 p0) : CtI l yX1_allPaid (ws_ yX1_allPaid cX1_allPaid 4 (some .int)) rmX1_allPaid D d E (wM o ad d) 0 0 [.ref o, .int p0] s0 post := by
  refine CtI.of hE (by decide) rfl (Nat.le_of_ble_eq_true rfl) ?_
  intro p e s m below meth c A ls F C hl
  have hl : lv_has ls 4 [(0, .ref o), (1, .int p0)] := hl
  unfold wpX1_allPaid at hw
  obtain ⟨hx, hb, hr, hml, hown, hts, hlk, hA, hK, -⟩ := id F
  refine lv_iconst (v := 0) hx hb dX1_allPaid_0 (by decide) ?_
  refine lv_istore_n (lv' := [(2, .int 0), (0, .ref o), (1, .int p0)]) hx hb dX1_allPaid_1 rfl hl (by decide) rfl (fun ls hl => ?_)
  refine lv_iconst (v := 0) hx hb dX1_allPaid_2 (by decide) ?_
  refine lv_istore_n (lv' := [(3, .int 0), (2, .int 0), (0, .ref o), (1, .int p0)]) hx hb dX1_allPaid_3 rfl hl (by decide) rfl (fun ls hl => ?_)
  obtain ⟨fu, hw⟩ := hw
  exact kX1_allPaid_4  F  fu p0 0 0 s0 _ _ _ hw C (lv_sub hl [2, 3, 1, 0] rfl)

abbrev rmX1_pay : Room := { frames := 3, cells := 0, slots := 0, locals := 64 }
def wpX1_pay  (post : Int32 → CS → Prop) (s0 : CS) (p0 : Int32) (p1 : Int32) (p2 : Int32) : Prop := (wpX1_isDead (fun r_2 s_1 => ((r_2 = 0 → (post (-1) s_1)) ∧ (¬ r_2 = 0 → (wpX1_isPerson (fun r_5 s_4 => ((r_5 = 0 → (post (-1) s_4)) ∧ (¬ r_5 = 0 → (wpX1_in (fun r_8 s_7 => ((r_8 = 0 → (post (-1) s_7)) ∧ (¬ r_8 = 0 → (vp_in p0 24 ∧ (wpX1_allPaid (fun r_12 s_11 => ((p2 ≤ ((sA s_7 50 p0.toNatClampNeg) - r_12) → (vp_in ((24 * p0) + p1) 576 ∧ (vp_in ((24 * p0) + p1) 576 ∧ ∀ s_16 : CS, s_16 = uA s_11 51 ((24 * p0) + p1).toNatClampNeg ((sA s_11 51 ((24 * p0) + p1).toNatClampNeg) + p2) → (vp_in p0 24 ∧ (wpX1_allPaid (fun r_19 s_18 => (post ((sA s_16 50 p0.toNatClampNeg) - r_19) s_18)) s_16 p0))))) ∧ (¬ p2 ≤ ((sA s_7 50 p0.toNatClampNeg) - r_12) → (post (-4) s_11)))) s_7 p0))))) s_4 p2 1 1000000000)))) s_1 p1)))) s0 p0)
theorem ctX1_pay (hE : Em E)  {post : Int32 → CS → Prop} {s0 : CS} {p0 p1 p2 : Int32} (hw : wpX1_pay  post s0 p0 p1 p2) : CtI l yX1_pay (ws_ yX1_pay cX1_pay 4 (some .int)) rmX1_pay D d E (wM o ad d) 0 0 [.ref o, .int p0, .int p1, .int p2] s0 post := by
  refine CtI.of hE (by decide) rfl (Nat.le_of_ble_eq_true rfl) ?_
  intro p e s m below meth c A ls F C hl
  have hl : lv_has ls 4 [(0, .ref o), (1, .int p0), (2, .int p1), (3, .int p2)] := hl
  unfold wpX1_pay at hw
  obtain ⟨hx, hb, hr, hml, hown, hts, hlk, hA, hK, -⟩ := id F
  refine lv_aload_n hx hb dX1_pay_0 rfl (lv_at hl 0 rfl) ?_
  refine lv_iload_n hx hb dX1_pay_1 rfl (lv_at hl 1 rfl) ?_
  refine x_callI (rest := []) (ci := 5) (q := (RX1, TX1, 55)) F C (ctX1_isDead hE hw) (cwV 1 hts (lw_V q1110 q1112 qs44 q71 q1113) rfl rfl rfl (by decide +kernel) ⟨Nat.le_of_ble_eq_true rfl, Nat.le_of_ble_eq_true rfl⟩) rfl rfl rfl hl.1 rfl (Nat.le_of_ble_eq_true rfl) dX1_pay_2 ⟨Nat.zero_le _, Nat.zero_le _⟩ (fun r_2 s_1 H locs hw C => ?_)
  refine lv_if_eq (tgt := 27) hx hb dX1_pay_5 (by decide) (fun c_3 => ?_) (fun c_3 => ?_)
  · have hw := hw.1 c_3
    refine lv_iconst (v := (-1)) hx hb dX1_pay_27 (by decide) ?_
    exact x_iret F C hw dX1_pay_28
  · have hw := hw.2 c_3
    refine lv_aload_n hx hb dX1_pay_8 rfl (lv_at hl 0 rfl) ?_
    refine lv_iload_n hx hb dX1_pay_9 rfl (lv_at hl 2 rfl) ?_
    refine x_callI (rest := []) (ci := 5) (q := (RX1, TX1, 55)) F C (ctX1_isPerson hE hw) (cwV 1 hts (lw_V q1046 q1048 qs37 q71 q1049) rfl rfl rfl (by decide +kernel) ⟨Nat.le_of_ble_eq_true rfl, Nat.le_of_ble_eq_true rfl⟩) rfl rfl rfl hl.1 rfl (Nat.le_of_ble_eq_true rfl) dX1_pay_10 ⟨Nat.zero_le _, Nat.zero_le _⟩ (fun r_5 s_4 H locs hw C => ?_)
    refine lv_if_eq (tgt := 27) hx hb dX1_pay_13 (by decide) (fun c_6 => ?_) (fun c_6 => ?_)
    · have hw := hw.1 c_6
      refine lv_iconst (v := (-1)) hx hb dX1_pay_27 (by decide) ?_
      exact x_iret F C hw dX1_pay_28
    · have hw := hw.2 c_6
      refine lv_iload_n hx hb dX1_pay_16 rfl (lv_at hl 3 rfl) ?_
      refine lv_iconst (v := 1) hx hb dX1_pay_17 (by decide) ?_
      refine lv_ldcw hx hb hown (hts _ q1240) dX1_pay_18 ?_
      refine x_callSI (rest := []) F C (ctX1_in hE hw) (va_cwS 3 hts (lw_S q1035 q1036 q71 q1037) rfl rfl rfl (by decide +kernel) ⟨Nat.le_of_ble_eq_true rfl, Nat.le_of_ble_eq_true rfl⟩) rfl hl.1 rfl (Nat.le_of_ble_eq_true rfl) dX1_pay_21 ⟨Nat.zero_le _, Nat.zero_le _⟩ (fun r_8 s_7 H locs hw C => ?_)
      refine lv_if_ne (tgt := 29) hx hb dX1_pay_24 (by decide) (fun c_9 => ?_) (fun c_9 => ?_)
      · have hw := hw.2 c_9
        refine lv_aload_n hx hb dX1_pay_29 rfl (lv_at hl 0 rfl) ?_
        refine x1_g50 F C dX1_pay_30 ?_
        refine lv_iload_n hx hb dX1_pay_33 rfl (lv_at hl 1 rfl) ?_
        obtain ⟨h_10, hw⟩ := hw
        refine x1_ld50 F C h_10 dX1_pay_34 ?_
        refine lv_aload_n hx hb dX1_pay_35 rfl (lv_at hl 0 rfl) ?_
        refine lv_iload_n hx hb dX1_pay_36 rfl (lv_at hl 1 rfl) ?_
        refine x_callI (rest := [.int (sA s_7 50 p0.toNatClampNeg)]) (ci := 5) (q := (RX1, TX1, 55)) F C (ctX1_allPaid hE hw) (cwV 1 hts (lw_V q1245 q1247 qs66 q71 q1248) rfl rfl rfl (by decide +kernel) ⟨Nat.le_of_ble_eq_true rfl, Nat.le_of_ble_eq_true rfl⟩) rfl rfl rfl hl.1 rfl (Nat.le_of_ble_eq_true rfl) dX1_pay_37 ⟨Nat.zero_le _, Nat.zero_le _⟩ (fun r_12 s_11 H locs hw C => ?_)
        refine lv_isub hx hb dX1_pay_40 ?_
        refine lv_iload_n hx hb dX1_pay_41 rfl (lv_at hl 3 rfl) ?_
        refine lv_icmp_ge (tgt := 48) hx hb dX1_pay_42 (by decide) (fun c_13 => ?_) (fun c_13 => ?_)
        · have hw := hw.1 c_13
          refine lv_aload_n hx hb dX1_pay_48 rfl (lv_at hl 0 rfl) ?_
          refine x1_g51 F C dX1_pay_49 ?_
          refine lv_bipush (v := 24) hx hb dX1_pay_52 (by decide) ?_
          refine lv_iload_n hx hb dX1_pay_54 rfl (lv_at hl 1 rfl) ?_
          refine lv_imul hx hb dX1_pay_55 ?_
          refine lv_iload_n hx hb dX1_pay_56 rfl (lv_at hl 2 rfl) ?_
          refine lv_iadd hx hb dX1_pay_57 ?_
          refine lv_dup2_11 hx hb dX1_pay_58 rfl rfl ?_
          obtain ⟨h_14, hw⟩ := hw
          refine x1_ld51 F C h_14 dX1_pay_59 ?_
          refine lv_iload_n hx hb dX1_pay_60 rfl (lv_at hl 3 rfl) ?_
          refine lv_iadd hx hb dX1_pay_61 ?_
          obtain ⟨h_15, hw⟩ := hw
          refine x1_st51 F C h_15 dX1_pay_62 (fun H locs s_16 es_16 C => ?_)
          have hw := hw s_16 es_16
          refine lv_aload_n hx hb dX1_pay_63 rfl (lv_at hl 0 rfl) ?_
          refine x1_g50 F C dX1_pay_64 ?_
          refine lv_iload_n hx hb dX1_pay_67 rfl (lv_at hl 1 rfl) ?_
          obtain ⟨h_17, hw⟩ := hw
          refine x1_ld50 F C h_17 dX1_pay_68 ?_
          refine lv_aload_n hx hb dX1_pay_69 rfl (lv_at hl 0 rfl) ?_
          refine lv_iload_n hx hb dX1_pay_70 rfl (lv_at hl 1 rfl) ?_
          refine x_callI (rest := [.int (sA s_16 50 p0.toNatClampNeg)]) (ci := 5) (q := (RX1, TX1, 55)) F C (ctX1_allPaid hE hw) (cwV 1 hts (lw_V q1245 q1247 qs66 q71 q1248) rfl rfl rfl (by decide +kernel) ⟨Nat.le_of_ble_eq_true rfl, Nat.le_of_ble_eq_true rfl⟩) rfl rfl rfl hl.1 rfl (Nat.le_of_ble_eq_true rfl) dX1_pay_71 ⟨Nat.zero_le _, Nat.zero_le _⟩ (fun r_19 s_18 H locs hw C => ?_)
          refine lv_isub hx hb dX1_pay_74 ?_
          exact x_iret F C hw dX1_pay_75
        · have hw := hw.2 c_13
          refine lv_bipush (v := (-4)) hx hb dX1_pay_45 (by decide) ?_
          exact x_iret F C hw dX1_pay_47
      · have hw := hw.1 c_9
        refine lv_iconst (v := (-1)) hx hb dX1_pay_27 (by decide) ?_
        exact x_iret F C hw dX1_pay_28

abbrev rmX1_dueOf : Room := { frames := 6, cells := 0, slots := 0, locals := 170 }
def wpX1_dueOf  (post : Int32 → CS → Prop) (s0 : CS) (p0 : Int32) (p1 : Int32) : Prop := (wpX1_setOpen (fun s_1 => (wpX1_partAll (fun s_3 => (vp_in p0 24 ∧ (vp_in p1 25 ∧ (vp_in p1 25 ∧ (¬ (sM s_3 27 p1.toNatClampNeg) = 0 ∧ (post (((((sA s_3 50 p0.toNatClampNeg).toInt64) * (sM s_3 26 p1.toNatClampNeg)) / (sM s_3 27 p1.toNatClampNeg)).toInt32) s_3)))))) s_1 p0 0 0)) s0 )
theorem ctX1_dueOf (hE : Em E)  {post : Int32 → CS → Prop} {s0 : CS} {p0 p1 : Int32} (hw : wpX1_dueOf  post s0 p0 p1) : CtI l yX1_dueOf (ws_ yX1_dueOf cX1_dueOf 3 (some .int)) rmX1_dueOf D d E (wM o ad d) 0 0 [.ref o, .int p0, .int p1] s0 post := by
  refine CtI.of hE (by decide) rfl (Nat.le_of_ble_eq_true rfl) ?_
  intro p e s m below meth c A ls F C hl
  have hl : lv_has ls 3 [(0, .ref o), (1, .int p0), (2, .int p1)] := hl
  unfold wpX1_dueOf at hw
  obtain ⟨hx, hb, hr, hml, hown, hts, hlk, hA, hK, -⟩ := id F
  refine lv_aload_n hx hb dX1_dueOf_0 rfl (lv_at hl 0 rfl) ?_
  refine x_callV (rest := []) (ci := 5) (q := (RX1, TX1, 55)) F C (ctX1_setOpen hE hw) (cwV 0 hts (lw_V q1126 q1128 qs47 q71 q1129) rfl rfl rfl (by decide +kernel) ⟨Nat.le_of_ble_eq_true rfl, Nat.le_of_ble_eq_true rfl⟩) rfl rfl rfl hl.1 rfl (Nat.le_of_ble_eq_true rfl) dX1_dueOf_1 ⟨Nat.zero_le _, Nat.zero_le _⟩ (fun s_1 H locs hw C => ?_)
  refine lv_aload_n hx hb dX1_dueOf_4 rfl (lv_at hl 0 rfl) ?_
  refine lv_iload_n hx hb dX1_dueOf_5 rfl (lv_at hl 1 rfl) ?_
  refine lv_iconst (v := 0) hx hb dX1_dueOf_6 (by decide) ?_
  refine lv_iconst (v := 0) hx hb dX1_dueOf_7 (by decide) ?_
  refine x_callV (rest := []) (ci := 5) (q := (RX1, TX1, 55)) F C (ctX1_partAll hE hw) (cwV 3 hts (lw_V q1130 q1132 qs48 q71 q1133) rfl rfl rfl (by decide +kernel) ⟨Nat.le_of_ble_eq_true rfl, Nat.le_of_ble_eq_true rfl⟩) rfl rfl rfl hl.1 rfl (Nat.le_of_ble_eq_true rfl) dX1_dueOf_8 ⟨Nat.zero_le _, Nat.zero_le _⟩ (fun s_3 H locs hw C => ?_)
  refine lv_aload_n hx hb dX1_dueOf_11 rfl (lv_at hl 0 rfl) ?_
  refine x1_g50 F C dX1_dueOf_12 ?_
  refine lv_iload_n hx hb dX1_dueOf_15 rfl (lv_at hl 1 rfl) ?_
  obtain ⟨h_5, hw⟩ := hw
  refine x1_ld50 F C h_5 dX1_dueOf_16 ?_
  refine lv_i2l (v := (sA s_3 50 p0.toNatClampNeg).toInt64) hx hb dX1_dueOf_17 rfl ?_
  refine lv_aload_n hx hb dX1_dueOf_18 rfl (lv_at hl 0 rfl) ?_
  refine x1_g26 F C dX1_dueOf_19 ?_
  refine lv_iload_n hx hb dX1_dueOf_22 rfl (lv_at hl 2 rfl) ?_
  obtain ⟨h_6, hw⟩ := hw
  refine x1_ld26 F C h_6 dX1_dueOf_23 ?_
  refine lv_lmul hx hb dX1_dueOf_24 ?_
  refine lv_aload_n hx hb dX1_dueOf_25 rfl (lv_at hl 0 rfl) ?_
  refine x1_g27 F C dX1_dueOf_26 ?_
  refine lv_iload_n hx hb dX1_dueOf_29 rfl (lv_at hl 2 rfl) ?_
  obtain ⟨h_7, hw⟩ := hw
  refine x1_ld27 F C h_7 dX1_dueOf_30 ?_
  obtain ⟨h_8, hw⟩ := hw
  refine lv_ldiv hx hb dX1_dueOf_31 h_8 ?_
  refine lv_l2i (v := ((((sA s_3 50 p0.toNatClampNeg).toInt64) * (sM s_3 26 p1.toNatClampNeg)) / (sM s_3 27 p1.toNatClampNeg)).toInt32) hx hb dX1_dueOf_32 rfl ?_
  exact x_iret F C hw dX1_dueOf_33

abbrev rmX1_due : Room := { frames := 7, cells := 0, slots := 0, locals := 192 }
def wpX1_due  (post : Int32 → CS → Prop) (s0 : CS) (p0 : Int32) (p1 : Int32) : Prop := (wpX1_isPerson (fun r_2 s_1 => ((r_2 = 0 → (post (-1) s_1)) ∧ (¬ r_2 = 0 → (wpX1_asked (fun r_5 s_4 => ((0 ≤ r_5 → (wpX1_dueOf (fun r_8 s_7 => (post r_8 s_7)) s_4 p0 p1)) ∧ (¬ 0 ≤ r_5 → (post r_5 s_4)))) s_1 p0)))) s0 p1)
theorem ctX1_due (hE : Em E)  {post : Int32 → CS → Prop} {s0 : CS} {p0 p1 : Int32} (hw : wpX1_due  post s0 p0 p1) : CtI l yX1_due (ws_ yX1_due cX1_due 4 (some .int)) rmX1_due D d E (wM o ad d) 0 0 [.ref o, .int p0, .int p1] s0 post := by
  refine CtI.of hE (by decide) rfl (Nat.le_of_ble_eq_true rfl) ?_
  intro p e s m below meth c A ls F C hl
  have hl : lv_has ls 4 [(0, .ref o), (1, .int p0), (2, .int p1)] := hl
  unfold wpX1_due at hw
  obtain ⟨hx, hb, hr, hml, hown, hts, hlk, hA, hK, -⟩ := id F
  refine lv_aload_n hx hb dX1_due_0 rfl (lv_at hl 0 rfl) ?_
  refine lv_iload_n hx hb dX1_due_1 rfl (lv_at hl 2 rfl) ?_
  refine x_callI (rest := []) (ci := 5) (q := (RX1, TX1, 55)) F C (ctX1_isPerson hE hw) (cwV 1 hts (lw_V q1046 q1048 qs37 q71 q1049) rfl rfl rfl (by decide +kernel) ⟨Nat.le_of_ble_eq_true rfl, Nat.le_of_ble_eq_true rfl⟩) rfl rfl rfl hl.1 rfl (Nat.le_of_ble_eq_true rfl) dX1_due_2 ⟨Nat.zero_le _, Nat.zero_le _⟩ (fun r_2 s_1 H locs hw C => ?_)
  refine lv_if_ne (tgt := 10) hx hb dX1_due_5 (by decide) (fun c_3 => ?_) (fun c_3 => ?_)
  · have hw := hw.2 c_3
    refine lv_aload_n hx hb dX1_due_10 rfl (lv_at hl 0 rfl) ?_
    refine lv_iload_n hx hb dX1_due_11 rfl (lv_at hl 1 rfl) ?_
    refine x_callI (rest := []) (ci := 5) (q := (RX1, TX1, 55)) F C (ctX1_asked hE hw) (cwV 1 hts (lw_V q1106 q1108 qs43 q71 q1109) rfl rfl rfl (by decide +kernel) ⟨Nat.le_of_ble_eq_true rfl, Nat.le_of_ble_eq_true rfl⟩) rfl rfl rfl hl.1 rfl (Nat.le_of_ble_eq_true rfl) dX1_due_12 ⟨Nat.zero_le _, Nat.zero_le _⟩ (fun r_5 s_4 H locs hw C => ?_)
    refine lv_istore_n (lv' := [(3, .int r_5), (0, .ref o), (1, .int p0), (2, .int p1)]) hx hb dX1_due_15 rfl hl (by decide) rfl (fun ls hl => ?_)
    refine lv_iload_n hx hb dX1_due_16 rfl (lv_at hl 0 rfl) ?_
    refine lv_if_ge (tgt := 24) hx hb dX1_due_17 (by decide) (fun c_6 => ?_) (fun c_6 => ?_)
    · have hw := hw.1 c_6
      refine lv_aload_n hx hb dX1_due_24 rfl (lv_at hl 1 rfl) ?_
      refine lv_iload_n hx hb dX1_due_25 rfl (lv_at hl 2 rfl) ?_
      refine lv_iload_n hx hb dX1_due_26 rfl (lv_at hl 3 rfl) ?_
      refine x_callI (rest := []) (ci := 5) (q := (RX1, TX1, 55)) F C (ctX1_dueOf hE hw) (cwV 2 hts (lw_V q1253 q1255 qs67 q71 q1256) rfl rfl rfl (by decide +kernel) ⟨Nat.le_of_ble_eq_true rfl, Nat.le_of_ble_eq_true rfl⟩) rfl rfl rfl hl.1 rfl (Nat.le_of_ble_eq_true rfl) dX1_due_27 ⟨Nat.zero_le _, Nat.zero_le _⟩ (fun r_8 s_7 H locs hw C => ?_)
      exact x_iret F C hw dX1_due_30
    · have hw := hw.2 c_6
      refine lv_iload_n hx hb dX1_due_20 rfl (lv_at hl 0 rfl) ?_
      refine lv_goto (tgt := 30) hx hb dX1_due_21 (by decide) ?_
      exact x_iret F C hw dX1_due_30
  · have hw := hw.1 c_3
    refine lv_iconst (v := (-1)) hx hb dX1_due_8 (by decide) ?_
    exact x_iret F C hw dX1_due_9

abbrev rmX1_paid : Room := { frames := 3, cells := 0, slots := 0, locals := 64 }
def wX1_paid_30  (post : Int32 → CS → Prop)   (st : CS) : Prop := (post (-1) st)
def wpX1_paid  (post : Int32 → CS → Prop) (s0 : CS) (p0 : Int32) (p1 : Int32) : Prop := (wpX1_isDead (fun r_2 s_1 => ((r_2 = 0 → (wX1_paid_30  post  s_1)) ∧ (¬ r_2 = 0 → (wpX1_isPerson (fun r_5 s_4 => ((r_5 = 0 → (wX1_paid_30  post  s_4)) ∧ (¬ r_5 = 0 → (vp_in ((24 * p0) + p1) 576 ∧ (post (sA s_4 51 ((24 * p0) + p1).toNatClampNeg) s_4))))) s_1 p1)))) s0 p0)
set_option maxHeartbeats 4000000 in
theorem kX1_paid_30  {post : Int32 → CS → Prop}  (F : Fx p s m args meth c cX1_paid 3 RX1 (some .int) D d E A) : ∀  (st : CS) (H : Heap) (locs : List Loc) (ls : Array Slot), wX1_paid_30  post  st → Cx D (wM o ad d) A s st H locs → lv_has ls 3 [] → W p l e (headSpec (ws_ yX1_paid cX1_paid 3 (some .int)) rmX1_paid).room s m args below meth c H locs 0 0 (QI below D d E (wM o ad d) A args s 0 0 post) (F0 m 30 ls []) := by
  obtain ⟨hx, hb, hr, hml, hown, hts, hlk, hA, hK, hE⟩ := id F
  intro st H locs ls hw C hl
  unfold wX1_paid_30 at hw
  refine lv_iconst (v := (-1)) hx hb dX1_paid_30 (by decide) ?_
  exact x_iret F C hw dX1_paid_31
theorem ctX1_paid (hE : Em E)  {post : Int32 → CS → Prop} {s0 : CS} {p0 p1 : Int32} (hw : wpX1_paid  post s0 p0 p1) : CtI l yX1_paid (ws_ yX1_paid cX1_paid 3 (some .int)) rmX1_paid D d E (wM o ad d) 0 0 [.ref o, .int p0, .int p1] s0 post := by
  refine CtI.of hE (by decide) rfl (Nat.le_of_ble_eq_true rfl) ?_
  intro p e s m below meth c A ls F C hl
  have hl : lv_has ls 3 [(0, .ref o), (1, .int p0), (2, .int p1)] := hl
  unfold wpX1_paid at hw
  obtain ⟨hx, hb, hr, hml, hown, hts, hlk, hA, hK, -⟩ := id F
  refine lv_aload_n hx hb dX1_paid_0 rfl (lv_at hl 0 rfl) ?_
  refine lv_iload_n hx hb dX1_paid_1 rfl (lv_at hl 1 rfl) ?_
  refine x_callI (rest := []) (ci := 5) (q := (RX1, TX1, 55)) F C (ctX1_isDead hE hw) (cwV 1 hts (lw_V q1110 q1112 qs44 q71 q1113) rfl rfl rfl (by decide +kernel) ⟨Nat.le_of_ble_eq_true rfl, Nat.le_of_ble_eq_true rfl⟩) rfl rfl rfl hl.1 rfl (Nat.le_of_ble_eq_true rfl) dX1_paid_2 ⟨Nat.zero_le _, Nat.zero_le _⟩ (fun r_2 s_1 H locs hw C => ?_)
  refine lv_if_eq (tgt := 30) hx hb dX1_paid_5 (by decide) (fun c_3 => ?_) (fun c_3 => ?_)
  · have hw := hw.1 c_3
    exact kX1_paid_30  F  s_1 _ _ _ hw C (lv_sub hl [] rfl)
  · have hw := hw.2 c_3
    refine lv_aload_n hx hb dX1_paid_8 rfl (lv_at hl 0 rfl) ?_
    refine lv_iload_n hx hb dX1_paid_9 rfl (lv_at hl 2 rfl) ?_
    refine x_callI (rest := []) (ci := 5) (q := (RX1, TX1, 55)) F C (ctX1_isPerson hE hw) (cwV 1 hts (lw_V q1046 q1048 qs37 q71 q1049) rfl rfl rfl (by decide +kernel) ⟨Nat.le_of_ble_eq_true rfl, Nat.le_of_ble_eq_true rfl⟩) rfl rfl rfl hl.1 rfl (Nat.le_of_ble_eq_true rfl) dX1_paid_10 ⟨Nat.zero_le _, Nat.zero_le _⟩ (fun r_5 s_4 H locs hw C => ?_)
    refine lv_if_eq (tgt := 30) hx hb dX1_paid_13 (by decide) (fun c_6 => ?_) (fun c_6 => ?_)
    · have hw := hw.1 c_6
      exact kX1_paid_30  F  s_4 _ _ _ hw C (lv_sub hl [] rfl)
    · have hw := hw.2 c_6
      refine lv_aload_n hx hb dX1_paid_16 rfl (lv_at hl 0 rfl) ?_
      refine x1_g51 F C dX1_paid_17 ?_
      refine lv_bipush (v := 24) hx hb dX1_paid_20 (by decide) ?_
      refine lv_iload_n hx hb dX1_paid_22 rfl (lv_at hl 1 rfl) ?_
      refine lv_imul hx hb dX1_paid_23 ?_
      refine lv_iload_n hx hb dX1_paid_24 rfl (lv_at hl 2 rfl) ?_
      refine lv_iadd hx hb dX1_paid_25 ?_
      obtain ⟨h_7, hw⟩ := hw
      refine x1_ld51 F C h_7 dX1_paid_26 ?_
      refine lv_goto (tgt := 31) hx hb dX1_paid_27 (by decide) ?_
      exact x_iret F C hw dX1_paid_31

abbrev rmX1_owes : Room := { frames := 7, cells := 0, slots := 0, locals := 192 }
def wpX1_owes  (post : Int32 → CS → Prop) (s0 : CS) (p0 : Int32) (p1 : Int32) : Prop := (wpX1_isPerson (fun r_2 s_1 => ((r_2 = 0 → (post (-1) s_1)) ∧ (¬ r_2 = 0 → (wpX1_asked (fun r_5 s_4 => ((0 ≤ r_5 → (wpX1_dueOf (fun r_8 s_7 => (vp_in ((24 * p0) + p1) 576 ∧ (((sA s_7 51 ((24 * p0) + p1).toNatClampNeg) ≤ r_8 → (post 0 s_7)) ∧ (¬ (sA s_7 51 ((24 * p0) + p1).toNatClampNeg) ≤ r_8 → (vp_in ((24 * p0) + p1) 576 ∧ (post ((sA s_7 51 ((24 * p0) + p1).toNatClampNeg) - r_8) s_7)))))) s_4 p0 p1)) ∧ (¬ 0 ≤ r_5 → (post r_5 s_4)))) s_1 p0)))) s0 p1)
theorem ctX1_owes (hE : Em E)  {post : Int32 → CS → Prop} {s0 : CS} {p0 p1 : Int32} (hw : wpX1_owes  post s0 p0 p1) : CtI l yX1_owes (ws_ yX1_owes cX1_owes 5 (some .int)) rmX1_owes D d E (wM o ad d) 0 0 [.ref o, .int p0, .int p1] s0 post := by
  refine CtI.of hE (by decide) rfl (Nat.le_of_ble_eq_true rfl) ?_
  intro p e s m below meth c A ls F C hl
  have hl : lv_has ls 5 [(0, .ref o), (1, .int p0), (2, .int p1)] := hl
  unfold wpX1_owes at hw
  obtain ⟨hx, hb, hr, hml, hown, hts, hlk, hA, hK, -⟩ := id F
  refine lv_aload_n hx hb dX1_owes_0 rfl (lv_at hl 0 rfl) ?_
  refine lv_iload_n hx hb dX1_owes_1 rfl (lv_at hl 2 rfl) ?_
  refine x_callI (rest := []) (ci := 5) (q := (RX1, TX1, 55)) F C (ctX1_isPerson hE hw) (cwV 1 hts (lw_V q1046 q1048 qs37 q71 q1049) rfl rfl rfl (by decide +kernel) ⟨Nat.le_of_ble_eq_true rfl, Nat.le_of_ble_eq_true rfl⟩) rfl rfl rfl hl.1 rfl (Nat.le_of_ble_eq_true rfl) dX1_owes_2 ⟨Nat.zero_le _, Nat.zero_le _⟩ (fun r_2 s_1 H locs hw C => ?_)
  refine lv_if_ne (tgt := 10) hx hb dX1_owes_5 (by decide) (fun c_3 => ?_) (fun c_3 => ?_)
  · have hw := hw.2 c_3
    refine lv_aload_n hx hb dX1_owes_10 rfl (lv_at hl 0 rfl) ?_
    refine lv_iload_n hx hb dX1_owes_11 rfl (lv_at hl 1 rfl) ?_
    refine x_callI (rest := []) (ci := 5) (q := (RX1, TX1, 55)) F C (ctX1_asked hE hw) (cwV 1 hts (lw_V q1106 q1108 qs43 q71 q1109) rfl rfl rfl (by decide +kernel) ⟨Nat.le_of_ble_eq_true rfl, Nat.le_of_ble_eq_true rfl⟩) rfl rfl rfl hl.1 rfl (Nat.le_of_ble_eq_true rfl) dX1_owes_12 ⟨Nat.zero_le _, Nat.zero_le _⟩ (fun r_5 s_4 H locs hw C => ?_)
    refine lv_istore_n (lv' := [(3, .int r_5), (0, .ref o), (1, .int p0), (2, .int p1)]) hx hb dX1_owes_15 rfl hl (by decide) rfl (fun ls hl => ?_)
    refine lv_iload_n hx hb dX1_owes_16 rfl (lv_at hl 0 rfl) ?_
    refine lv_if_ge (tgt := 22) hx hb dX1_owes_17 (by decide) (fun c_6 => ?_) (fun c_6 => ?_)
    · have hw := hw.1 c_6
      refine lv_aload_n hx hb dX1_owes_22 rfl (lv_at hl 1 rfl) ?_
      refine lv_iload_n hx hb dX1_owes_23 rfl (lv_at hl 2 rfl) ?_
      refine lv_iload_n hx hb dX1_owes_24 rfl (lv_at hl 3 rfl) ?_
      refine x_callI (rest := []) (ci := 5) (q := (RX1, TX1, 55)) F C (ctX1_dueOf hE hw) (cwV 2 hts (lw_V q1253 q1255 qs67 q71 q1256) rfl rfl rfl (by decide +kernel) ⟨Nat.le_of_ble_eq_true rfl, Nat.le_of_ble_eq_true rfl⟩) rfl rfl rfl hl.1 rfl (Nat.le_of_ble_eq_true rfl) dX1_owes_25 ⟨Nat.zero_le _, Nat.zero_le _⟩ (fun r_8 s_7 H locs hw C => ?_)
      refine lv_istore (lv' := [(4, .int r_8), (3, .int r_5), (0, .ref o), (1, .int p0), (2, .int p1)]) hx hb dX1_owes_28 hl (by decide) rfl (fun ls hl => ?_)
      refine lv_aload_n hx hb dX1_owes_30 rfl (lv_at hl 2 rfl) ?_
      refine x1_g51 F C dX1_owes_31 ?_
      refine lv_bipush (v := 24) hx hb dX1_owes_34 (by decide) ?_
      refine lv_iload_n hx hb dX1_owes_36 rfl (lv_at hl 3 rfl) ?_
      refine lv_imul hx hb dX1_owes_37 ?_
      refine lv_iload_n hx hb dX1_owes_38 rfl (lv_at hl 4 rfl) ?_
      refine lv_iadd hx hb dX1_owes_39 ?_
      obtain ⟨h_9, hw⟩ := hw
      refine x1_ld51 F C h_9 dX1_owes_40 ?_
      refine lv_iload hx hb dX1_owes_41 (lv_at hl 0 rfl) ?_
      refine lv_icmp_le (tgt := 63) hx hb dX1_owes_43 (by decide) (fun c_10 => ?_) (fun c_10 => ?_)
      · have hw := hw.1 c_10
        refine lv_iconst (v := 0) hx hb dX1_owes_63 (by decide) ?_
        exact x_iret F C hw dX1_owes_64
      · have hw := hw.2 c_10
        refine lv_aload_n hx hb dX1_owes_46 rfl (lv_at hl 2 rfl) ?_
        refine x1_g51 F C dX1_owes_47 ?_
        refine lv_bipush (v := 24) hx hb dX1_owes_50 (by decide) ?_
        refine lv_iload_n hx hb dX1_owes_52 rfl (lv_at hl 3 rfl) ?_
        refine lv_imul hx hb dX1_owes_53 ?_
        refine lv_iload_n hx hb dX1_owes_54 rfl (lv_at hl 4 rfl) ?_
        refine lv_iadd hx hb dX1_owes_55 ?_
        obtain ⟨h_11, hw⟩ := hw
        refine x1_ld51 F C h_11 dX1_owes_56 ?_
        refine lv_iload hx hb dX1_owes_57 (lv_at hl 0 rfl) ?_
        refine lv_isub hx hb dX1_owes_59 ?_
        refine lv_goto (tgt := 64) hx hb dX1_owes_60 (by decide) ?_
        exact x_iret F C hw dX1_owes_64
    · have hw := hw.2 c_6
      refine lv_iload_n hx hb dX1_owes_20 rfl (lv_at hl 0 rfl) ?_
      exact x_iret F C hw dX1_owes_21
  · have hw := hw.1 c_3
    refine lv_iconst (v := (-1)) hx hb dX1_owes_8 (by decide) ?_
    exact x_iret F C hw dX1_owes_9

abbrev rmX1_mean : Room := { frames := 3, cells := 0, slots := 0, locals := 64 }
def wX1_mean_40  (post : Int32 → CS → Prop) (k14 : Int32 → Int32 → Int32 → CS → Prop) (x1 : Int32) (x3 : Int32) (y0 : Int32) (y1 : Int32) (st : CS) : Prop := (∀ x2_13 : Int32, x2_13 = (y1 + y0) → (∀ x3_14 : Int32, x3_14 = x3 + 1 → (k14 x1 x2_13 x3_14 st)))
def wX1_mean_14  (post : Int32 → CS → Prop)  : Nat → Int32 → Int32 → Int32 → CS → Prop
  | 0 => fun _ _ _ _ => False
  | n + 1 => fun x1 x2 x3 st => ((24 ≤ x3 → ((x2 = 0 → (wpX1_meets (fun r_10 s_9 => (post r_10 s_9)) st 4)) ∧ (¬ x2 = 0 → (wpX1_allPaid (fun r_7 s_6 => (¬ x2 = 0 ∧ (post (r_7 / x2) s_6))) st x1)))) ∧ (¬ 24 ≤ x3 → (vp_in ((24 * x1) + x3) 576 ∧ (((sA st 51 ((24 * x1) + x3).toNatClampNeg) ≤ 0 → (wX1_mean_40  post (wX1_mean_14  post  n) x1 x3 0 x2 st)) ∧ (¬ (sA st 51 ((24 * x1) + x3).toNatClampNeg) ≤ 0 → (wX1_mean_40  post (wX1_mean_14  post  n) x1 x3 1 x2 st))))))
def wpX1_mean  (post : Int32 → CS → Prop) (s0 : CS) (p0 : Int32) : Prop := (wpX1_isDead (fun r_2 s_1 => ((r_2 = 0 → (post (-1) s_1)) ∧ (¬ r_2 = 0 → (∃ fu : Nat, wX1_mean_14  post  fu p0 0 0 s_1)))) s0 p0)
set_option maxHeartbeats 4000000 in
theorem kX1_mean_40  {post : Int32 → CS → Prop} {k14 : Int32 → Int32 → Int32 → CS → Prop} (F : Fx p s m args meth c cX1_mean 4 RX1 (some .int) D d E A) (hk14 : ∀ (x1 : Int32) (x2 : Int32) (x3 : Int32) (st : CS) (H : Heap) (locs : List Loc) (ls : Array Slot), k14 x1 x2 x3 st → Cx D (wM o ad d) A s st H locs → lv_has ls 4 [(0, .ref o), (1, .int x1), (2, .int x2), (3, .int x3)] → W p l e (headSpec (ws_ yX1_mean cX1_mean 4 (some .int)) rmX1_mean).room s m args below meth c H locs 0 0 (QI below D d E (wM o ad d) A args s 0 0 post) (F0 m 14 ls [])) : ∀ (x1 : Int32) (x3 : Int32) (y0 : Int32) (y1 : Int32) (st : CS) (H : Heap) (locs : List Loc) (ls : Array Slot), wX1_mean_40  post k14 x1 x3 y0 y1 st → Cx D (wM o ad d) A s st H locs → lv_has ls 4 [(0, .ref o), (1, .int x1), (3, .int x3)] → W p l e (headSpec (ws_ yX1_mean cX1_mean 4 (some .int)) rmX1_mean).room s m args below meth c H locs 0 0 (QI below D d E (wM o ad d) A args s 0 0 post) (F0 m 40 ls [.int y0, .int y1]) := by
  obtain ⟨hx, hb, hr, hml, hown, hts, hlk, hA, hK, hE⟩ := id F
  intro x1 x3 y0 y1 st H locs ls hw C hl
  unfold wX1_mean_40 at hw
  refine lv_iadd hx hb dX1_mean_40 ?_
  refine lv_topi (fun x2_13 ex2_13 => ?_)
  have hw := hw x2_13 ex2_13
  refine lv_istore_n (lv' := [(2, .int x2_13), (0, .ref o), (1, .int x1), (3, .int x3)]) hx hb dX1_mean_41 rfl hl (by decide) rfl (fun ls hl => ?_)
  obtain ⟨x3_14, ex3_14⟩ : ∃ y : Int32, y = x3 + 1 := ⟨_, rfl⟩
  have hw := hw x3_14 ex3_14
  refine lv_iinc (v := x3_14) (lv' := [(3, .int x3_14), (2, .int x2_13), (0, .ref o), (1, .int x1)]) hx hb dX1_mean_42 hl (k := 3) rfl (by rw [ex3_14]; rfl) (by decide) rfl (fun ls hl => ?_)
  refine lv_goto (tgt := 14) hx hb dX1_mean_45 (by decide) ?_
  exact hk14 x1 x2_13 x3_14 st _ _ _ hw C (lv_sub hl [2, 3, 1, 0] rfl)
set_option maxHeartbeats 4000000 in
theorem kX1_mean_14  {post : Int32 → CS → Prop}  (F : Fx p s m args meth c cX1_mean 4 RX1 (some .int) D d E A) : ∀ (fu : Nat) (x1 : Int32) (x2 : Int32) (x3 : Int32) (st : CS) (H : Heap) (locs : List Loc) (ls : Array Slot), wX1_mean_14  post  fu x1 x2 x3 st → Cx D (wM o ad d) A s st H locs → lv_has ls 4 [(0, .ref o), (1, .int x1), (2, .int x2), (3, .int x3)] → W p l e (headSpec (ws_ yX1_mean cX1_mean 4 (some .int)) rmX1_mean).room s m args below meth c H locs 0 0 (QI below D d E (wM o ad d) A args s 0 0 post) (F0 m 14 ls []) := by
  obtain ⟨hx, hb, hr, hml, hown, hts, hlk, hA, hK, hE⟩ := id F
  intro fu
  induction fu with
  | zero =>
    intro x1 x2 x3 st H locs ls hw
    exact hw.elim
  | succ n ih =>
    have hk14 := ih
    intro x1 x2 x3 st H locs ls hw C hl
    unfold wX1_mean_14 at hw
    refine lv_iload_n hx hb dX1_mean_14 rfl (lv_at hl 3 rfl) ?_
    refine lv_bipush (v := 24) hx hb dX1_mean_15 (by decide) ?_
    refine lv_icmp_ge (tgt := 48) hx hb dX1_mean_17 (by decide) (fun c_4 => ?_) (fun c_4 => ?_)
    · have hw := hw.1 c_4
      refine lv_iload_n hx hb dX1_mean_48 rfl (lv_at hl 2 rfl) ?_
      refine lv_if_ne (tgt := 60) hx hb dX1_mean_49 (by decide) (fun c_5 => ?_) (fun c_5 => ?_)
      · have hw := hw.2 c_5
        refine lv_aload_n hx hb dX1_mean_60 rfl (lv_at hl 0 rfl) ?_
        refine lv_iload_n hx hb dX1_mean_61 rfl (lv_at hl 1 rfl) ?_
        refine x_callI (rest := []) (ci := 5) (q := (RX1, TX1, 55)) F C (ctX1_allPaid hE hw) (cwV 1 hts (lw_V q1245 q1247 qs66 q71 q1248) rfl rfl rfl (by decide +kernel) ⟨Nat.le_of_ble_eq_true rfl, Nat.le_of_ble_eq_true rfl⟩) rfl rfl rfl hl.1 rfl (Nat.le_of_ble_eq_true rfl) dX1_mean_62 ⟨Nat.zero_le _, Nat.zero_le _⟩ (fun r_7 s_6 H locs hw C => ?_)
        refine lv_iload_n hx hb dX1_mean_65 rfl (lv_at hl 2 rfl) ?_
        obtain ⟨h_8, hw⟩ := hw
        refine lv_idiv hx hb dX1_mean_66 h_8 ?_
        exact x_iret F C hw dX1_mean_67
      · have hw := hw.1 c_5
        refine lv_aload_n hx hb dX1_mean_52 rfl (lv_at hl 0 rfl) ?_
        refine lv_iconst (v := 4) hx hb dX1_mean_53 (by decide) ?_
        refine x_callI (rest := []) (ci := 5) (q := (RX1, TX1, 55)) F C (ctX1_meets hE hw) (cwV 1 hts (lw_V q1082 q1084 qs42 q71 q1085) rfl rfl rfl (by decide +kernel) ⟨Nat.le_of_ble_eq_true rfl, Nat.le_of_ble_eq_true rfl⟩) rfl rfl rfl hl.1 rfl (Nat.le_of_ble_eq_true rfl) dX1_mean_54 ⟨Nat.zero_le _, Nat.zero_le _⟩ (fun r_10 s_9 H locs hw C => ?_)
        refine lv_goto (tgt := 67) hx hb dX1_mean_57 (by decide) ?_
        exact x_iret F C hw dX1_mean_67
    · have hw := hw.2 c_4
      refine lv_iload_n hx hb dX1_mean_20 rfl (lv_at hl 2 rfl) ?_
      refine lv_aload_n hx hb dX1_mean_21 rfl (lv_at hl 0 rfl) ?_
      refine x1_g51 F C dX1_mean_22 ?_
      refine lv_bipush (v := 24) hx hb dX1_mean_25 (by decide) ?_
      refine lv_iload_n hx hb dX1_mean_27 rfl (lv_at hl 1 rfl) ?_
      refine lv_imul hx hb dX1_mean_28 ?_
      refine lv_iload_n hx hb dX1_mean_29 rfl (lv_at hl 3 rfl) ?_
      refine lv_iadd hx hb dX1_mean_30 ?_
      obtain ⟨h_11, hw⟩ := hw
      refine x1_ld51 F C h_11 dX1_mean_31 ?_
      refine lv_if_le (tgt := 39) hx hb dX1_mean_32 (by decide) (fun c_12 => ?_) (fun c_12 => ?_)
      · have hw := hw.1 c_12
        refine lv_iconst (v := 0) hx hb dX1_mean_39 (by decide) ?_
        exact kX1_mean_40  F hk14 x1 x3 0 x2 st _ _ _ hw C (lv_sub hl [0, 1, 3] rfl)
      · have hw := hw.2 c_12
        refine lv_iconst (v := 1) hx hb dX1_mean_35 (by decide) ?_
        refine lv_goto (tgt := 40) hx hb dX1_mean_36 (by decide) ?_
        exact kX1_mean_40  F hk14 x1 x3 1 x2 st _ _ _ hw C (lv_sub hl [0, 1, 3] rfl)
theorem ctX1_mean (hE : Em E)  {post : Int32 → CS → Prop} {s0 : CS} {p0 : Int32} (hw : wpX1_mean  post s0 p0) : CtI l yX1_mean (ws_ yX1_mean cX1_mean 4 (some .int)) rmX1_mean D d E (wM o ad d) 0 0 [.ref o, .int p0] s0 post := by
  refine CtI.of hE (by decide) rfl (Nat.le_of_ble_eq_true rfl) ?_
  intro p e s m below meth c A ls F C hl
  have hl : lv_has ls 4 [(0, .ref o), (1, .int p0)] := hl
  unfold wpX1_mean at hw
  obtain ⟨hx, hb, hr, hml, hown, hts, hlk, hA, hK, -⟩ := id F
  refine lv_aload_n hx hb dX1_mean_0 rfl (lv_at hl 0 rfl) ?_
  refine lv_iload_n hx hb dX1_mean_1 rfl (lv_at hl 1 rfl) ?_
  refine x_callI (rest := []) (ci := 5) (q := (RX1, TX1, 55)) F C (ctX1_isDead hE hw) (cwV 1 hts (lw_V q1110 q1112 qs44 q71 q1113) rfl rfl rfl (by decide +kernel) ⟨Nat.le_of_ble_eq_true rfl, Nat.le_of_ble_eq_true rfl⟩) rfl rfl rfl hl.1 rfl (Nat.le_of_ble_eq_true rfl) dX1_mean_2 ⟨Nat.zero_le _, Nat.zero_le _⟩ (fun r_2 s_1 H locs hw C => ?_)
  refine lv_if_ne (tgt := 10) hx hb dX1_mean_5 (by decide) (fun c_3 => ?_) (fun c_3 => ?_)
  · have hw := hw.2 c_3
    refine lv_iconst (v := 0) hx hb dX1_mean_10 (by decide) ?_
    refine lv_istore_n (lv' := [(2, .int 0), (0, .ref o), (1, .int p0)]) hx hb dX1_mean_11 rfl hl (by decide) rfl (fun ls hl => ?_)
    refine lv_iconst (v := 0) hx hb dX1_mean_12 (by decide) ?_
    refine lv_istore_n (lv' := [(3, .int 0), (2, .int 0), (0, .ref o), (1, .int p0)]) hx hb dX1_mean_13 rfl hl (by decide) rfl (fun ls hl => ?_)
    obtain ⟨fu, hw⟩ := hw
    exact kX1_mean_14  F  fu p0 0 0 s_1 _ _ _ hw C (lv_sub hl [2, 3, 1, 0] rfl)
  · have hw := hw.1 c_3
    refine lv_iconst (v := (-1)) hx hb dX1_mean_8 (by decide) ?_
    exact x_iret F C hw dX1_mean_9

abbrev rmX1_isSheet : Room := { frames := 1, cells := 0, slots := 0, locals := 22 }
def wpX1_isSheet  (post : Int32 → CS → Prop) (s0 : CS) (p0 : Int32) : Prop := (wpX1_in (fun r_2 s_1 => (zb r_2 ∧ post r_2 s_1)) s0 p0 0 3)
theorem ctX1_isSheet (hE : Em E)  {post : Int32 → CS → Prop} {s0 : CS} {p0 : Int32} (hw : wpX1_isSheet  post s0 p0) : CtI l yX1_isSheet (ws_ yX1_isSheet cX1_isSheet 1 (some .boolean)) rmX1_isSheet D d E wf 0 0 [.int p0] s0 post := by
  refine CtI.of hE (by decide) rfl (Nat.le_of_ble_eq_true rfl) ?_
  intro p e s m below meth c A ls F C hl
  have hl : lv_has ls 1 [(0, .int p0)] := hl
  unfold wpX1_isSheet at hw
  obtain ⟨hx, hb, hr, hml, hown, hts, hlk, hA, hK, -⟩ := id F
  refine lv_iload_n hx hb dX1_isSheet_0 rfl (lv_at hl 0 rfl) ?_
  refine lv_iconst (v := 0) hx hb dX1_isSheet_1 (by decide) ?_
  refine lv_iconst (v := 3) hx hb dX1_isSheet_2 (by decide) ?_
  refine x_callSI (rest := []) F C (ctX1_in hE hw) (va_cwS 3 hts (lw_S q1035 q1036 q71 q1037) rfl rfl rfl (by decide +kernel) ⟨Nat.le_of_ble_eq_true rfl, Nat.le_of_ble_eq_true rfl⟩) rfl hl.1 rfl (Nat.le_of_ble_eq_true rfl) dX1_isSheet_3 ⟨Nat.zero_le _, Nat.zero_le _⟩ (fun r_2 s_1 H locs hw C => ?_)
  exact x_zret F C hw.1 hw.2 dX1_isSheet_6

abbrev rmX1_sheet : Room := { frames := 2, cells := 0, slots := 0, locals := 42 }
def wX1_sheet_34  (post : Int32 → CS → Prop)  : Nat → Int32 → Int32 → Int32 → CS → Prop
  | 0 => fun _ _ _ _ => False
  | n + 1 => fun x1 x2 x3 st => ((24 ≤ x3 → (post x2 st)) ∧ (¬ 24 ≤ x3 → (vp_in ((24 * x1) + x3) 96 ∧ ∀ s_10 : CS, s_10 = uA st 53 ((24 * x1) + x3).toNatClampNeg 0 → (∀ x3_11 : Int32, x3_11 = x3 + 1 → (wX1_sheet_34  post  n x1 x2 x3_11 s_10)))))
def wpX1_sheet  (post : Int32 → CS → Prop) (s0 : CS) (p0 : Int32) (p1 : Int32) : Prop := (wpX1_isSheet (fun r_2 s_1 => ((r_2 = 0 → (post (-1) s_1)) ∧ (¬ r_2 = 0 → ((p1 ≤ 24 → ((0 ≤ p1 → (vp_in p0 4 ∧ ∀ s_7 : CS, s_7 = uA s_1 52 p0.toNatClampNeg p1 → (∃ fu : Nat, wX1_sheet_34  post  fu p0 p1 0 s_7))) ∧ (¬ 0 ≤ p1 → (wpX1_meets (fun r_13 s_12 => (post r_13 s_12)) s_1 5)))) ∧ (¬ p1 ≤ 24 → (post (-1) s_1)))))) s0 p0)
set_option maxHeartbeats 4000000 in
theorem kX1_sheet_34  {post : Int32 → CS → Prop}  (F : Fx p s m args meth c cX1_sheet 4 RX1 (some .int) D d E A) : ∀ (fu : Nat) (x1 : Int32) (x2 : Int32) (x3 : Int32) (st : CS) (H : Heap) (locs : List Loc) (ls : Array Slot), wX1_sheet_34  post  fu x1 x2 x3 st → Cx D (wM o ad d) A s st H locs → lv_has ls 4 [(0, .ref o), (1, .int x1), (2, .int x2), (3, .int x3)] → W p l e (headSpec (ws_ yX1_sheet cX1_sheet 4 (some .int)) rmX1_sheet).room s m args below meth c H locs 0 0 (QI below D d E (wM o ad d) A args s 0 0 post) (F0 m 34 ls []) := by
  obtain ⟨hx, hb, hr, hml, hown, hts, hlk, hA, hK, hE⟩ := id F
  intro fu
  induction fu with
  | zero =>
    intro x1 x2 x3 st H locs ls hw
    exact hw.elim
  | succ n ih =>
    have hk34 := ih
    intro x1 x2 x3 st H locs ls hw C hl
    unfold wX1_sheet_34 at hw
    refine lv_iload_n hx hb dX1_sheet_34 rfl (lv_at hl 3 rfl) ?_
    refine lv_bipush (v := 24) hx hb dX1_sheet_35 (by decide) ?_
    refine lv_icmp_ge (tgt := 58) hx hb dX1_sheet_37 (by decide) (fun c_8 => ?_) (fun c_8 => ?_)
    · have hw := hw.1 c_8
      refine lv_iload_n hx hb dX1_sheet_58 rfl (lv_at hl 2 rfl) ?_
      exact x_iret F C hw dX1_sheet_59
    · have hw := hw.2 c_8
      refine lv_aload_n hx hb dX1_sheet_40 rfl (lv_at hl 0 rfl) ?_
      refine x1_g53 F C dX1_sheet_41 ?_
      refine lv_bipush (v := 24) hx hb dX1_sheet_44 (by decide) ?_
      refine lv_iload_n hx hb dX1_sheet_46 rfl (lv_at hl 1 rfl) ?_
      refine lv_imul hx hb dX1_sheet_47 ?_
      refine lv_iload_n hx hb dX1_sheet_48 rfl (lv_at hl 3 rfl) ?_
      refine lv_iadd hx hb dX1_sheet_49 ?_
      refine lv_iconst (v := 0) hx hb dX1_sheet_50 (by decide) ?_
      obtain ⟨h_9, hw⟩ := hw
      refine x1_st53 F C h_9 dX1_sheet_51 (fun H locs s_10 es_10 C => ?_)
      have hw := hw s_10 es_10
      obtain ⟨x3_11, ex3_11⟩ : ∃ y : Int32, y = x3 + 1 := ⟨_, rfl⟩
      have hw := hw x3_11 ex3_11
      refine lv_iinc (v := x3_11) (lv' := [(3, .int x3_11), (0, .ref o), (1, .int x1), (2, .int x2)]) hx hb dX1_sheet_52 hl (k := 3) rfl (by rw [ex3_11]; rfl) (by decide) rfl (fun ls hl => ?_)
      refine lv_goto (tgt := 34) hx hb dX1_sheet_55 (by decide) ?_
      exact hk34 x1 x2 x3_11 s_10 _ _ _ hw C (lv_sub hl [1, 2, 3, 0] rfl)
theorem ctX1_sheet (hE : Em E)  {post : Int32 → CS → Prop} {s0 : CS} {p0 p1 : Int32} (hw : wpX1_sheet  post s0 p0 p1) : CtI l yX1_sheet (ws_ yX1_sheet cX1_sheet 4 (some .int)) rmX1_sheet D d E (wM o ad d) 0 0 [.ref o, .int p0, .int p1] s0 post := by
  refine CtI.of hE (by decide) rfl (Nat.le_of_ble_eq_true rfl) ?_
  intro p e s m below meth c A ls F C hl
  have hl : lv_has ls 4 [(0, .ref o), (1, .int p0), (2, .int p1)] := hl
  unfold wpX1_sheet at hw
  obtain ⟨hx, hb, hr, hml, hown, hts, hlk, hA, hK, -⟩ := id F
  refine lv_iload_n hx hb dX1_sheet_0 rfl (lv_at hl 1 rfl) ?_
  refine x_callSI (rest := []) F C (ctX1_isSheet hE hw) (va_cwS 1 hts (lw_S q1273 q1274 q71 q1275) rfl rfl rfl (by decide +kernel) ⟨Nat.le_of_ble_eq_true rfl, Nat.le_of_ble_eq_true rfl⟩) rfl hl.1 rfl (Nat.le_of_ble_eq_true rfl) dX1_sheet_1 ⟨Nat.zero_le _, Nat.zero_le _⟩ (fun r_2 s_1 H locs hw C => ?_)
  refine lv_if_eq (tgt := 13) hx hb dX1_sheet_4 (by decide) (fun c_3 => ?_) (fun c_3 => ?_)
  · have hw := hw.1 c_3
    refine lv_iconst (v := (-1)) hx hb dX1_sheet_13 (by decide) ?_
    exact x_iret F C hw dX1_sheet_14
  · have hw := hw.2 c_3
    refine lv_iload_n hx hb dX1_sheet_7 rfl (lv_at hl 2 rfl) ?_
    refine lv_bipush (v := 24) hx hb dX1_sheet_8 (by decide) ?_
    refine lv_icmp_le (tgt := 15) hx hb dX1_sheet_10 (by decide) (fun c_4 => ?_) (fun c_4 => ?_)
    · have hw := hw.1 c_4
      refine lv_iload_n hx hb dX1_sheet_15 rfl (lv_at hl 2 rfl) ?_
      refine lv_if_ge (tgt := 25) hx hb dX1_sheet_16 (by decide) (fun c_5 => ?_) (fun c_5 => ?_)
      · have hw := hw.1 c_5
        refine lv_aload_n hx hb dX1_sheet_25 rfl (lv_at hl 0 rfl) ?_
        refine x1_g52 F C dX1_sheet_26 ?_
        refine lv_iload_n hx hb dX1_sheet_29 rfl (lv_at hl 1 rfl) ?_
        refine lv_iload_n hx hb dX1_sheet_30 rfl (lv_at hl 2 rfl) ?_
        obtain ⟨h_6, hw⟩ := hw
        refine x1_st52 F C h_6 dX1_sheet_31 (fun H locs s_7 es_7 C => ?_)
        have hw := hw s_7 es_7
        refine lv_iconst (v := 0) hx hb dX1_sheet_32 (by decide) ?_
        refine lv_istore_n (lv' := [(3, .int 0), (0, .ref o), (1, .int p0), (2, .int p1)]) hx hb dX1_sheet_33 rfl hl (by decide) rfl (fun ls hl => ?_)
        obtain ⟨fu, hw⟩ := hw
        exact kX1_sheet_34  F  fu p0 p1 0 s_7 _ _ _ hw C (lv_sub hl [1, 2, 3, 0] rfl)
      · have hw := hw.2 c_5
        refine lv_aload_n hx hb dX1_sheet_19 rfl (lv_at hl 0 rfl) ?_
        refine lv_iconst (v := 5) hx hb dX1_sheet_20 (by decide) ?_
        refine x_callI (rest := []) (ci := 5) (q := (RX1, TX1, 55)) F C (ctX1_meets hE hw) (cwV 1 hts (lw_V q1082 q1084 qs42 q71 q1085) rfl rfl rfl (by decide +kernel) ⟨Nat.le_of_ble_eq_true rfl, Nat.le_of_ble_eq_true rfl⟩) rfl rfl rfl hl.1 rfl (Nat.le_of_ble_eq_true rfl) dX1_sheet_21 ⟨Nat.zero_le _, Nat.zero_le _⟩ (fun r_13 s_12 H locs hw C => ?_)
        exact x_iret F C hw dX1_sheet_24
    · have hw := hw.2 c_4
      refine lv_iconst (v := (-1)) hx hb dX1_sheet_13 (by decide) ?_
      exact x_iret F C hw dX1_sheet_14

abbrev rmX1_note : Room := { frames := 3, cells := 0, slots := 0, locals := 64 }
def wX1_note_62  (post : Int32 → CS → Prop)  : Nat → Int32 → Int32 → Int32 → Int32 → CS → Prop
  | 0 => fun _ _ _ _ _ => False
  | n + 1 => fun x1 x2 x3 x4 st => ((x3 ≤ x4 → (post x3 st)) ∧ (¬ x3 ≤ x4 → (vp_in ((24 * x2) + x4) 576 ∧ (vp_in ((24 * x1) + x4) 96 ∧ ∀ s_15 : CS, s_15 = uA st 53 ((24 * x1) + x4).toNatClampNeg (sA st 51 ((24 * x2) + x4).toNatClampNeg) → (∀ x4_16 : Int32, x4_16 = x4 + 1 → (wX1_note_62  post  n x1 x2 x3 x4_16 s_15))))))
def wX1_note_58  (post : Int32 → CS → Prop)  (x1 : Int32) (x2 : Int32) (y0 : Int32) (st : CS) : Prop := (∃ fu : Nat, wX1_note_62  post  fu x1 x2 y0 0 st)
def wpX1_note  (post : Int32 → CS → Prop) (s0 : CS) (p0 : Int32) (p1 : Int32) : Prop := (wpX1_isSheet (fun r_2 s_1 => ((r_2 = 0 → (post (-1) s_1)) ∧ (¬ r_2 = 0 → (wpX1_isDead (fun r_5 s_4 => ((r_5 = 0 → (post (-1) s_4)) ∧ (¬ r_5 = 0 → (vp_in p0 4 ∧ ((0 ≤ (sA s_4 52 p0.toNatClampNeg) → (vp_in p0 4 ∧ (((sA s_4 52 p0.toNatClampNeg) ≤ (sI s_4 2) → (vp_in p0 4 ∧ (wX1_note_58  post  p0 p1 (sA s_4 52 p0.toNatClampNeg) s_4))) ∧ (¬ (sA s_4 52 p0.toNatClampNeg) ≤ (sI s_4 2) → (wX1_note_58  post  p0 p1 (sI s_4 2) s_4))))) ∧ (¬ 0 ≤ (sA s_4 52 p0.toNatClampNeg) → (wpX1_meets (fun r_18 s_17 => (post r_18 s_17)) s_4 1))))))) s_1 p1)))) s0 p0)
set_option maxHeartbeats 4000000 in
theorem kX1_note_62  {post : Int32 → CS → Prop}  (F : Fx p s m args meth c cX1_note 5 RX1 (some .int) D d E A) : ∀ (fu : Nat) (x1 : Int32) (x2 : Int32) (x3 : Int32) (x4 : Int32) (st : CS) (H : Heap) (locs : List Loc) (ls : Array Slot), wX1_note_62  post  fu x1 x2 x3 x4 st → Cx D (wM o ad d) A s st H locs → lv_has ls 5 [(0, .ref o), (1, .int x1), (2, .int x2), (3, .int x3), (4, .int x4)] → W p l e (headSpec (ws_ yX1_note cX1_note 5 (some .int)) rmX1_note).room s m args below meth c H locs 0 0 (QI below D d E (wM o ad d) A args s 0 0 post) (F0 m 62 ls []) := by
  obtain ⟨hx, hb, hr, hml, hown, hts, hlk, hA, hK, hE⟩ := id F
  intro fu
  induction fu with
  | zero =>
    intro x1 x2 x3 x4 st H locs ls hw
    exact hw.elim
  | succ n ih =>
    have hk62 := ih
    intro x1 x2 x3 x4 st H locs ls hw C hl
    unfold wX1_note_62 at hw
    refine lv_iload hx hb dX1_note_62 (lv_at hl 4 rfl) ?_
    refine lv_iload_n hx hb dX1_note_64 rfl (lv_at hl 3 rfl) ?_
    refine lv_icmp_ge (tgt := 98) hx hb dX1_note_65 (by decide) (fun c_12 => ?_) (fun c_12 => ?_)
    · have hw := hw.1 c_12
      refine lv_iload_n hx hb dX1_note_98 rfl (lv_at hl 3 rfl) ?_
      exact x_iret F C hw dX1_note_99
    · have hw := hw.2 c_12
      refine lv_aload_n hx hb dX1_note_68 rfl (lv_at hl 0 rfl) ?_
      refine x1_g53 F C dX1_note_69 ?_
      refine lv_bipush (v := 24) hx hb dX1_note_72 (by decide) ?_
      refine lv_iload_n hx hb dX1_note_74 rfl (lv_at hl 1 rfl) ?_
      refine lv_imul hx hb dX1_note_75 ?_
      refine lv_iload hx hb dX1_note_76 (lv_at hl 4 rfl) ?_
      refine lv_iadd hx hb dX1_note_78 ?_
      refine lv_aload_n hx hb dX1_note_79 rfl (lv_at hl 0 rfl) ?_
      refine x1_g51 F C dX1_note_80 ?_
      refine lv_bipush (v := 24) hx hb dX1_note_83 (by decide) ?_
      refine lv_iload_n hx hb dX1_note_85 rfl (lv_at hl 2 rfl) ?_
      refine lv_imul hx hb dX1_note_86 ?_
      refine lv_iload hx hb dX1_note_87 (lv_at hl 4 rfl) ?_
      refine lv_iadd hx hb dX1_note_89 ?_
      obtain ⟨h_13, hw⟩ := hw
      refine x1_ld51 F C h_13 dX1_note_90 ?_
      obtain ⟨h_14, hw⟩ := hw
      refine x1_st53 F C h_14 dX1_note_91 (fun H locs s_15 es_15 C => ?_)
      have hw := hw s_15 es_15
      obtain ⟨x4_16, ex4_16⟩ : ∃ y : Int32, y = x4 + 1 := ⟨_, rfl⟩
      have hw := hw x4_16 ex4_16
      refine lv_iinc (v := x4_16) (lv' := [(4, .int x4_16), (0, .ref o), (1, .int x1), (2, .int x2), (3, .int x3)]) hx hb dX1_note_92 hl (k := 4) rfl (by rw [ex4_16]; rfl) (by decide) rfl (fun ls hl => ?_)
      refine lv_goto (tgt := 62) hx hb dX1_note_95 (by decide) ?_
      exact hk62 x1 x2 x3 x4_16 s_15 _ _ _ hw C (lv_sub hl [1, 2, 3, 4, 0] rfl)
set_option maxHeartbeats 4000000 in
theorem kX1_note_58  {post : Int32 → CS → Prop}  (F : Fx p s m args meth c cX1_note 5 RX1 (some .int) D d E A) : ∀ (x1 : Int32) (x2 : Int32) (y0 : Int32) (st : CS) (H : Heap) (locs : List Loc) (ls : Array Slot), wX1_note_58  post  x1 x2 y0 st → Cx D (wM o ad d) A s st H locs → lv_has ls 5 [(0, .ref o), (1, .int x1), (2, .int x2)] → W p l e (headSpec (ws_ yX1_note cX1_note 5 (some .int)) rmX1_note).room s m args below meth c H locs 0 0 (QI below D d E (wM o ad d) A args s 0 0 post) (F0 m 58 ls [.int y0]) := by
  obtain ⟨hx, hb, hr, hml, hown, hts, hlk, hA, hK, hE⟩ := id F
  intro x1 x2 y0 st H locs ls hw C hl
  unfold wX1_note_58 at hw
  refine lv_istore_n (lv' := [(3, .int y0), (0, .ref o), (1, .int x1), (2, .int x2)]) hx hb dX1_note_58 rfl hl (by decide) rfl (fun ls hl => ?_)
  refine lv_iconst (v := 0) hx hb dX1_note_59 (by decide) ?_
  refine lv_istore (lv' := [(4, .int 0), (3, .int y0), (0, .ref o), (1, .int x1), (2, .int x2)]) hx hb dX1_note_60 hl (by decide) rfl (fun ls hl => ?_)
  obtain ⟨fu, hw⟩ := hw
  exact kX1_note_62  F  fu x1 x2 y0 0 st _ _ _ hw C (lv_sub hl [2, 3, 4, 1, 0] rfl)
theorem ctX1_note (hE : Em E)  {post : Int32 → CS → Prop} {s0 : CS} {p0 p1 : Int32} (hw : wpX1_note  post s0 p0 p1) : CtI l yX1_note (ws_ yX1_note cX1_note 5 (some .int)) rmX1_note D d E (wM o ad d) 0 0 [.ref o, .int p0, .int p1] s0 post := by
  refine CtI.of hE (by decide) rfl (Nat.le_of_ble_eq_true rfl) ?_
  intro p e s m below meth c A ls F C hl
  have hl : lv_has ls 5 [(0, .ref o), (1, .int p0), (2, .int p1)] := hl
  unfold wpX1_note at hw
  obtain ⟨hx, hb, hr, hml, hown, hts, hlk, hA, hK, -⟩ := id F
  refine lv_iload_n hx hb dX1_note_0 rfl (lv_at hl 1 rfl) ?_
  refine x_callSI (rest := []) F C (ctX1_isSheet hE hw) (va_cwS 1 hts (lw_S q1273 q1274 q71 q1275) rfl rfl rfl (by decide +kernel) ⟨Nat.le_of_ble_eq_true rfl, Nat.le_of_ble_eq_true rfl⟩) rfl hl.1 rfl (Nat.le_of_ble_eq_true rfl) dX1_note_1 ⟨Nat.zero_le _, Nat.zero_le _⟩ (fun r_2 s_1 H locs hw C => ?_)
  refine lv_if_eq (tgt := 15) hx hb dX1_note_4 (by decide) (fun c_3 => ?_) (fun c_3 => ?_)
  · have hw := hw.1 c_3
    refine lv_iconst (v := (-1)) hx hb dX1_note_15 (by decide) ?_
    exact x_iret F C hw dX1_note_16
  · have hw := hw.2 c_3
    refine lv_aload_n hx hb dX1_note_7 rfl (lv_at hl 0 rfl) ?_
    refine lv_iload_n hx hb dX1_note_8 rfl (lv_at hl 2 rfl) ?_
    refine x_callI (rest := []) (ci := 5) (q := (RX1, TX1, 55)) F C (ctX1_isDead hE hw) (cwV 1 hts (lw_V q1110 q1112 qs44 q71 q1113) rfl rfl rfl (by decide +kernel) ⟨Nat.le_of_ble_eq_true rfl, Nat.le_of_ble_eq_true rfl⟩) rfl rfl rfl hl.1 rfl (Nat.le_of_ble_eq_true rfl) dX1_note_9 ⟨Nat.zero_le _, Nat.zero_le _⟩ (fun r_5 s_4 H locs hw C => ?_)
    refine lv_if_ne (tgt := 17) hx hb dX1_note_12 (by decide) (fun c_6 => ?_) (fun c_6 => ?_)
    · have hw := hw.2 c_6
      refine lv_aload_n hx hb dX1_note_17 rfl (lv_at hl 0 rfl) ?_
      refine x1_g52 F C dX1_note_18 ?_
      refine lv_iload_n hx hb dX1_note_21 rfl (lv_at hl 1 rfl) ?_
      obtain ⟨h_7, hw⟩ := hw
      refine x1_ld52 F C h_7 dX1_note_22 ?_
      refine lv_if_ge (tgt := 32) hx hb dX1_note_23 (by decide) (fun c_8 => ?_) (fun c_8 => ?_)
      · have hw := hw.1 c_8
        refine lv_aload_n hx hb dX1_note_32 rfl (lv_at hl 0 rfl) ?_
        refine x1_g2 F C dX1_note_33 ?_
        refine lv_aload_n hx hb dX1_note_36 rfl (lv_at hl 0 rfl) ?_
        refine x1_g52 F C dX1_note_37 ?_
        refine lv_iload_n hx hb dX1_note_40 rfl (lv_at hl 1 rfl) ?_
        obtain ⟨h_9, hw⟩ := hw
        refine x1_ld52 F C h_9 dX1_note_41 ?_
        refine lv_icmp_ge (tgt := 52) hx hb dX1_note_42 (by decide) (fun c_10 => ?_) (fun c_10 => ?_)
        · have hw := hw.1 c_10
          refine lv_aload_n hx hb dX1_note_52 rfl (lv_at hl 0 rfl) ?_
          refine x1_g52 F C dX1_note_53 ?_
          refine lv_iload_n hx hb dX1_note_56 rfl (lv_at hl 1 rfl) ?_
          obtain ⟨h_11, hw⟩ := hw
          refine x1_ld52 F C h_11 dX1_note_57 ?_
          exact kX1_note_58  F  p0 p1 (sA s_4 52 p0.toNatClampNeg) s_4 _ _ _ hw C hl
        · have hw := hw.2 c_10
          refine lv_aload_n hx hb dX1_note_45 rfl (lv_at hl 0 rfl) ?_
          refine x1_g2 F C dX1_note_46 ?_
          refine lv_goto (tgt := 58) hx hb dX1_note_49 (by decide) ?_
          exact kX1_note_58  F  p0 p1 (sI s_4 2) s_4 _ _ _ hw C hl
      · have hw := hw.2 c_8
        refine lv_aload_n hx hb dX1_note_26 rfl (lv_at hl 0 rfl) ?_
        refine lv_iconst (v := 1) hx hb dX1_note_27 (by decide) ?_
        refine x_callI (rest := []) (ci := 5) (q := (RX1, TX1, 55)) F C (ctX1_meets hE hw) (cwV 1 hts (lw_V q1082 q1084 qs42 q71 q1085) rfl rfl rfl (by decide +kernel) ⟨Nat.le_of_ble_eq_true rfl, Nat.le_of_ble_eq_true rfl⟩) rfl rfl rfl hl.1 rfl (Nat.le_of_ble_eq_true rfl) dX1_note_28 ⟨Nat.zero_le _, Nat.zero_le _⟩ (fun r_18 s_17 H locs hw C => ?_)
        exact x_iret F C hw dX1_note_31
    · have hw := hw.1 c_6
      refine lv_iconst (v := (-1)) hx hb dX1_note_15 (by decide) ?_
      exact x_iret F C hw dX1_note_16

abbrev rmX1_at : Room := { frames := 2, cells := 0, slots := 0, locals := 42 }
def wpX1_at  (post : Int32 → CS → Prop) (s0 : CS) (p0 : Int32) (p1 : Int32) : Prop := (wpX1_isSheet (fun r_2 s_1 => ((r_2 = 0 → (post (-1) s_1)) ∧ (¬ r_2 = 0 → (vp_in p0 4 ∧ ((0 ≤ (sA s_1 52 p0.toNatClampNeg) → (vp_in p0 4 ∧ (wpX1_in (fun r_8 s_7 => ((r_8 = 0 → (wpX1_meets (fun r_11 s_10 => (post r_11 s_10)) s_7 2)) ∧ (¬ r_8 = 0 → (vp_in ((24 * p0) + p1) 96 ∧ (post (sA s_7 53 ((24 * p0) + p1).toNatClampNeg) s_7))))) s_1 p1 0 ((sA s_1 52 p0.toNatClampNeg) - 1)))) ∧ (¬ 0 ≤ (sA s_1 52 p0.toNatClampNeg) → (wpX1_meets (fun r_14 s_13 => (post r_14 s_13)) s_1 1))))))) s0 p0)
theorem ctX1_at (hE : Em E)  {post : Int32 → CS → Prop} {s0 : CS} {p0 p1 : Int32} (hw : wpX1_at  post s0 p0 p1) : CtI l yX1_at (ws_ yX1_at cX1_at 3 (some .int)) rmX1_at D d E (wM o ad d) 0 0 [.ref o, .int p0, .int p1] s0 post := by
  refine CtI.of hE (by decide) rfl (Nat.le_of_ble_eq_true rfl) ?_
  intro p e s m below meth c A ls F C hl
  have hl : lv_has ls 3 [(0, .ref o), (1, .int p0), (2, .int p1)] := hl
  unfold wpX1_at at hw
  obtain ⟨hx, hb, hr, hml, hown, hts, hlk, hA, hK, -⟩ := id F
  refine lv_iload_n hx hb dX1_at_0 rfl (lv_at hl 1 rfl) ?_
  refine x_callSI (rest := []) F C (ctX1_isSheet hE hw) (va_cwS 1 hts (lw_S q1273 q1274 q71 q1275) rfl rfl rfl (by decide +kernel) ⟨Nat.le_of_ble_eq_true rfl, Nat.le_of_ble_eq_true rfl⟩) rfl hl.1 rfl (Nat.le_of_ble_eq_true rfl) dX1_at_1 ⟨Nat.zero_le _, Nat.zero_le _⟩ (fun r_2 s_1 H locs hw C => ?_)
  refine lv_if_ne (tgt := 9) hx hb dX1_at_4 (by decide) (fun c_3 => ?_) (fun c_3 => ?_)
  · have hw := hw.2 c_3
    refine lv_aload_n hx hb dX1_at_9 rfl (lv_at hl 0 rfl) ?_
    refine x1_g52 F C dX1_at_10 ?_
    refine lv_iload_n hx hb dX1_at_13 rfl (lv_at hl 1 rfl) ?_
    obtain ⟨h_4, hw⟩ := hw
    refine x1_ld52 F C h_4 dX1_at_14 ?_
    refine lv_if_ge (tgt := 24) hx hb dX1_at_15 (by decide) (fun c_5 => ?_) (fun c_5 => ?_)
    · have hw := hw.1 c_5
      refine lv_iload_n hx hb dX1_at_24 rfl (lv_at hl 2 rfl) ?_
      refine lv_iconst (v := 0) hx hb dX1_at_25 (by decide) ?_
      refine lv_aload_n hx hb dX1_at_26 rfl (lv_at hl 0 rfl) ?_
      refine x1_g52 F C dX1_at_27 ?_
      refine lv_iload_n hx hb dX1_at_30 rfl (lv_at hl 1 rfl) ?_
      obtain ⟨h_6, hw⟩ := hw
      refine x1_ld52 F C h_6 dX1_at_31 ?_
      refine lv_iconst (v := 1) hx hb dX1_at_32 (by decide) ?_
      refine lv_isub hx hb dX1_at_33 ?_
      refine x_callSI (rest := []) F C (ctX1_in hE hw) (va_cwS 3 hts (lw_S q1035 q1036 q71 q1037) rfl rfl rfl (by decide +kernel) ⟨Nat.le_of_ble_eq_true rfl, Nat.le_of_ble_eq_true rfl⟩) rfl hl.1 rfl (Nat.le_of_ble_eq_true rfl) dX1_at_34 ⟨Nat.zero_le _, Nat.zero_le _⟩ (fun r_8 s_7 H locs hw C => ?_)
      refine lv_if_eq (tgt := 54) hx hb dX1_at_37 (by decide) (fun c_9 => ?_) (fun c_9 => ?_)
      · have hw := hw.1 c_9
        refine lv_aload_n hx hb dX1_at_54 rfl (lv_at hl 0 rfl) ?_
        refine lv_iconst (v := 2) hx hb dX1_at_55 (by decide) ?_
        refine x_callI (rest := []) (ci := 5) (q := (RX1, TX1, 55)) F C (ctX1_meets hE hw) (cwV 1 hts (lw_V q1082 q1084 qs42 q71 q1085) rfl rfl rfl (by decide +kernel) ⟨Nat.le_of_ble_eq_true rfl, Nat.le_of_ble_eq_true rfl⟩) rfl rfl rfl hl.1 rfl (Nat.le_of_ble_eq_true rfl) dX1_at_56 ⟨Nat.zero_le _, Nat.zero_le _⟩ (fun r_11 s_10 H locs hw C => ?_)
        exact x_iret F C hw dX1_at_59
      · have hw := hw.2 c_9
        refine lv_aload_n hx hb dX1_at_40 rfl (lv_at hl 0 rfl) ?_
        refine x1_g53 F C dX1_at_41 ?_
        refine lv_bipush (v := 24) hx hb dX1_at_44 (by decide) ?_
        refine lv_iload_n hx hb dX1_at_46 rfl (lv_at hl 1 rfl) ?_
        refine lv_imul hx hb dX1_at_47 ?_
        refine lv_iload_n hx hb dX1_at_48 rfl (lv_at hl 2 rfl) ?_
        refine lv_iadd hx hb dX1_at_49 ?_
        obtain ⟨h_12, hw⟩ := hw
        refine x1_ld53 F C h_12 dX1_at_50 ?_
        refine lv_goto (tgt := 59) hx hb dX1_at_51 (by decide) ?_
        exact x_iret F C hw dX1_at_59
    · have hw := hw.2 c_5
      refine lv_aload_n hx hb dX1_at_18 rfl (lv_at hl 0 rfl) ?_
      refine lv_iconst (v := 1) hx hb dX1_at_19 (by decide) ?_
      refine x_callI (rest := []) (ci := 5) (q := (RX1, TX1, 55)) F C (ctX1_meets hE hw) (cwV 1 hts (lw_V q1082 q1084 qs42 q71 q1085) rfl rfl rfl (by decide +kernel) ⟨Nat.le_of_ble_eq_true rfl, Nat.le_of_ble_eq_true rfl⟩) rfl rfl rfl hl.1 rfl (Nat.le_of_ble_eq_true rfl) dX1_at_20 ⟨Nat.zero_le _, Nat.zero_le _⟩ (fun r_14 s_13 H locs hw C => ?_)
      exact x_iret F C hw dX1_at_23
  · have hw := hw.1 c_3
    refine lv_iconst (v := (-1)) hx hb dX1_at_7 (by decide) ?_
    exact x_iret F C hw dX1_at_8

abbrev rmX1_tear : Room := { frames := 2, cells := 0, slots := 0, locals := 42 }
def wpX1_tear  (post : Int32 → CS → Prop) (s0 : CS) (p0 : Int32) : Prop := (wpX1_isSheet (fun r_2 s_1 => ((r_2 = 0 → (post (-1) s_1)) ∧ (¬ r_2 = 0 → (vp_in p0 4 ∧ ((0 ≤ (sA s_1 52 p0.toNatClampNeg) → (vp_in p0 4 ∧ ∀ s_7 : CS, s_7 = uA s_1 52 p0.toNatClampNeg (-9) → (post 1 s_7))) ∧ (¬ 0 ≤ (sA s_1 52 p0.toNatClampNeg) → (wpX1_meets (fun r_9 s_8 => (post r_9 s_8)) s_1 1))))))) s0 p0)
theorem ctX1_tear (hE : Em E)  {post : Int32 → CS → Prop} {s0 : CS} {p0 : Int32} (hw : wpX1_tear  post s0 p0) : CtI l yX1_tear (ws_ yX1_tear cX1_tear 2 (some .int)) rmX1_tear D d E (wM o ad d) 0 0 [.ref o, .int p0] s0 post := by
  refine CtI.of hE (by decide) rfl (Nat.le_of_ble_eq_true rfl) ?_
  intro p e s m below meth c A ls F C hl
  have hl : lv_has ls 2 [(0, .ref o), (1, .int p0)] := hl
  unfold wpX1_tear at hw
  obtain ⟨hx, hb, hr, hml, hown, hts, hlk, hA, hK, -⟩ := id F
  refine lv_iload_n hx hb dX1_tear_0 rfl (lv_at hl 1 rfl) ?_
  refine x_callSI (rest := []) F C (ctX1_isSheet hE hw) (va_cwS 1 hts (lw_S q1273 q1274 q71 q1275) rfl rfl rfl (by decide +kernel) ⟨Nat.le_of_ble_eq_true rfl, Nat.le_of_ble_eq_true rfl⟩) rfl hl.1 rfl (Nat.le_of_ble_eq_true rfl) dX1_tear_1 ⟨Nat.zero_le _, Nat.zero_le _⟩ (fun r_2 s_1 H locs hw C => ?_)
  refine lv_if_ne (tgt := 9) hx hb dX1_tear_4 (by decide) (fun c_3 => ?_) (fun c_3 => ?_)
  · have hw := hw.2 c_3
    refine lv_aload_n hx hb dX1_tear_9 rfl (lv_at hl 0 rfl) ?_
    refine x1_g52 F C dX1_tear_10 ?_
    refine lv_iload_n hx hb dX1_tear_13 rfl (lv_at hl 1 rfl) ?_
    obtain ⟨h_4, hw⟩ := hw
    refine x1_ld52 F C h_4 dX1_tear_14 ?_
    refine lv_if_ge (tgt := 24) hx hb dX1_tear_15 (by decide) (fun c_5 => ?_) (fun c_5 => ?_)
    · have hw := hw.1 c_5
      refine lv_aload_n hx hb dX1_tear_24 rfl (lv_at hl 0 rfl) ?_
      refine x1_g52 F C dX1_tear_25 ?_
      refine lv_iload_n hx hb dX1_tear_28 rfl (lv_at hl 1 rfl) ?_
      refine lv_bipush (v := (-9)) hx hb dX1_tear_29 (by decide) ?_
      obtain ⟨h_6, hw⟩ := hw
      refine x1_st52 F C h_6 dX1_tear_31 (fun H locs s_7 es_7 C => ?_)
      have hw := hw s_7 es_7
      refine lv_iconst (v := 1) hx hb dX1_tear_32 (by decide) ?_
      exact x_iret F C hw dX1_tear_33
    · have hw := hw.2 c_5
      refine lv_aload_n hx hb dX1_tear_18 rfl (lv_at hl 0 rfl) ?_
      refine lv_iconst (v := 1) hx hb dX1_tear_19 (by decide) ?_
      refine x_callI (rest := []) (ci := 5) (q := (RX1, TX1, 55)) F C (ctX1_meets hE hw) (cwV 1 hts (lw_V q1082 q1084 qs42 q71 q1085) rfl rfl rfl (by decide +kernel) ⟨Nat.le_of_ble_eq_true rfl, Nat.le_of_ble_eq_true rfl⟩) rfl rfl rfl hl.1 rfl (Nat.le_of_ble_eq_true rfl) dX1_tear_20 ⟨Nat.zero_le _, Nat.zero_le _⟩ (fun r_9 s_8 H locs hw C => ?_)
      exact x_iret F C hw dX1_tear_23
  · have hw := hw.1 c_3
    refine lv_iconst (v := (-1)) hx hb dX1_tear_7 (by decide) ?_
    exact x_iret F C hw dX1_tear_8

abbrev rmX1_copy : Room := { frames := 2, cells := 0, slots := 0, locals := 42 }
def wX1_copy_45  (post : Int32 → CS → Prop)   (st : CS) : Prop := (wpX1_meets (fun r_11 s_10 => (post r_11 s_10)) st 1)
def wX1_copy_95  (post : Int32 → CS → Prop)   (st : CS) : Prop := (wpX1_meets (fun r_16 s_15 => (post r_16 s_15)) st 2)
def wX1_copy_141  (post : Int32 → CS → Prop)  : Nat → Int32 → Int32 → Int32 → Int32 → CS → Prop
  | 0 => fun _ _ _ _ _ => False
  | n + 1 => fun x3 x4 x5 x6 st => ((x5 ≤ x6 → (post 1 st)) ∧ (¬ x5 ≤ x6 → (vp_in x6 24 ∧ (vp_in (((24 * x3) + x4) + x6) 96 ∧ ∀ s_26 : CS, s_26 = uA st 53 (((24 * x3) + x4) + x6).toNatClampNeg (sA st 54 x6.toNatClampNeg) → (∀ x6_27 : Int32, x6_27 = x6 + 1 → (wX1_copy_141  post  n x3 x4 x5 x6_27 s_26))))))
def wX1_copy_104  (post : Int32 → CS → Prop)  : Nat → Int32 → Int32 → Int32 → Int32 → Int32 → Int32 → CS → Prop
  | 0 => fun _ _ _ _ _ _ _ => False
  | n + 1 => fun x1 x2 x3 x4 x5 x6 st => ((x5 ≤ x6 → (∃ fu : Nat, wX1_copy_141  post  fu x3 x4 x5 0 st)) ∧ (¬ x5 ≤ x6 → (vp_in (((24 * x1) + x2) + x6) 96 ∧ (vp_in x6 24 ∧ ∀ s_30 : CS, s_30 = uA st 54 x6.toNatClampNeg (sA st 53 (((24 * x1) + x2) + x6).toNatClampNeg) → (∀ x6_31 : Int32, x6_31 = x6 + 1 → (wX1_copy_104  post  n x1 x2 x3 x4 x5 x6_31 s_30))))))
def wpX1_copy  (post : Int32 → CS → Prop) (s0 : CS) (p0 : Int32) (p1 : Int32) (p2 : Int32) (p3 : Int32) (p4 : Int32) : Prop := (wpX1_isSheet (fun r_2 s_1 => ((r_2 = 0 → (post (-1) s_1)) ∧ (¬ r_2 = 0 → (wpX1_isSheet (fun r_5 s_4 => ((r_5 = 0 → (post (-1) s_4)) ∧ (¬ r_5 = 0 → ((0 ≤ p4 → (vp_in p0 4 ∧ (((sA s_4 52 p0.toNatClampNeg) < 0 → (wX1_copy_45  post  s_4)) ∧ (¬ (sA s_4 52 p0.toNatClampNeg) < 0 → (vp_in p2 4 ∧ ((0 ≤ (sA s_4 52 p2.toNatClampNeg) → ((p1 < 0 → (wX1_copy_95  post  s_4)) ∧ (¬ p1 < 0 → ((p3 < 0 → (wX1_copy_95  post  s_4)) ∧ (¬ p3 < 0 → (vp_in p0 4 ∧ ((((sA s_4 52 p0.toNatClampNeg).toInt64) < (p1.toInt64 + p4.toInt64) → (wX1_copy_95  post  s_4)) ∧ (¬ ((sA s_4 52 p0.toNatClampNeg).toInt64) < (p1.toInt64 + p4.toInt64) → (vp_in p2 4 ∧ (((p3.toInt64 + p4.toInt64) ≤ ((sA s_4 52 p2.toNatClampNeg).toInt64) → (∃ fu : Nat, wX1_copy_104  post  fu p0 p1 p2 p3 p4 0 s_4)) ∧ (¬ (p3.toInt64 + p4.toInt64) ≤ ((sA s_4 52 p2.toNatClampNeg).toInt64) → (wX1_copy_95  post  s_4)))))))))))) ∧ (¬ 0 ≤ (sA s_4 52 p2.toNatClampNeg) → (wX1_copy_45  post  s_4)))))))) ∧ (¬ 0 ≤ p4 → (wpX1_meets (fun r_33 s_32 => (post r_33 s_32)) s_4 5)))))) s_1 p2)))) s0 p0)
set_option maxHeartbeats 4000000 in
theorem kX1_copy_45  {post : Int32 → CS → Prop}  (F : Fx p s m args meth c cX1_copy 7 RX1 (some .int) D d E A) : ∀  (st : CS) (H : Heap) (locs : List Loc) (ls : Array Slot), wX1_copy_45  post  st → Cx D (wM o ad d) A s st H locs → lv_has ls 7 [(0, .ref o)] → W p l e (headSpec (ws_ yX1_copy cX1_copy 7 (some .int)) rmX1_copy).room s m args below meth c H locs 0 0 (QI below D d E (wM o ad d) A args s 0 0 post) (F0 m 45 ls []) := by
  obtain ⟨hx, hb, hr, hml, hown, hts, hlk, hA, hK, hE⟩ := id F
  intro st H locs ls hw C hl
  unfold wX1_copy_45 at hw
  refine lv_aload_n hx hb dX1_copy_45 rfl (lv_at hl 0 rfl) ?_
  refine lv_iconst (v := 1) hx hb dX1_copy_46 (by decide) ?_
  refine x_callI (rest := []) (ci := 5) (q := (RX1, TX1, 55)) F C (ctX1_meets hE hw) (cwV 1 hts (lw_V q1082 q1084 qs42 q71 q1085) rfl rfl rfl (by decide +kernel) ⟨Nat.le_of_ble_eq_true rfl, Nat.le_of_ble_eq_true rfl⟩) rfl rfl rfl hl.1 rfl (Nat.le_of_ble_eq_true rfl) dX1_copy_47 ⟨Nat.zero_le _, Nat.zero_le _⟩ (fun r_11 s_10 H locs hw C => ?_)
  exact x_iret F C hw dX1_copy_50
set_option maxHeartbeats 4000000 in
theorem kX1_copy_95  {post : Int32 → CS → Prop}  (F : Fx p s m args meth c cX1_copy 7 RX1 (some .int) D d E A) : ∀  (st : CS) (H : Heap) (locs : List Loc) (ls : Array Slot), wX1_copy_95  post  st → Cx D (wM o ad d) A s st H locs → lv_has ls 7 [(0, .ref o)] → W p l e (headSpec (ws_ yX1_copy cX1_copy 7 (some .int)) rmX1_copy).room s m args below meth c H locs 0 0 (QI below D d E (wM o ad d) A args s 0 0 post) (F0 m 95 ls []) := by
  obtain ⟨hx, hb, hr, hml, hown, hts, hlk, hA, hK, hE⟩ := id F
  intro st H locs ls hw C hl
  unfold wX1_copy_95 at hw
  refine lv_aload_n hx hb dX1_copy_95 rfl (lv_at hl 0 rfl) ?_
  refine lv_iconst (v := 2) hx hb dX1_copy_96 (by decide) ?_
  refine x_callI (rest := []) (ci := 5) (q := (RX1, TX1, 55)) F C (ctX1_meets hE hw) (cwV 1 hts (lw_V q1082 q1084 qs42 q71 q1085) rfl rfl rfl (by decide +kernel) ⟨Nat.le_of_ble_eq_true rfl, Nat.le_of_ble_eq_true rfl⟩) rfl rfl rfl hl.1 rfl (Nat.le_of_ble_eq_true rfl) dX1_copy_97 ⟨Nat.zero_le _, Nat.zero_le _⟩ (fun r_16 s_15 H locs hw C => ?_)
  exact x_iret F C hw dX1_copy_100
set_option maxHeartbeats 4000000 in
theorem kX1_copy_141  {post : Int32 → CS → Prop}  (F : Fx p s m args meth c cX1_copy 7 RX1 (some .int) D d E A) : ∀ (fu : Nat) (x3 : Int32) (x4 : Int32) (x5 : Int32) (x6 : Int32) (st : CS) (H : Heap) (locs : List Loc) (ls : Array Slot), wX1_copy_141  post  fu x3 x4 x5 x6 st → Cx D (wM o ad d) A s st H locs → lv_has ls 7 [(0, .ref o), (3, .int x3), (4, .int x4), (5, .int x5), (6, .int x6)] → W p l e (headSpec (ws_ yX1_copy cX1_copy 7 (some .int)) rmX1_copy).room s m args below meth c H locs 0 0 (QI below D d E (wM o ad d) A args s 0 0 post) (F0 m 141 ls []) := by
  obtain ⟨hx, hb, hr, hml, hown, hts, hlk, hA, hK, hE⟩ := id F
  intro fu
  induction fu with
  | zero =>
    intro x3 x4 x5 x6 st H locs ls hw
    exact hw.elim
  | succ n ih =>
    have hk141 := ih
    intro x3 x4 x5 x6 st H locs ls hw C hl
    unfold wX1_copy_141 at hw
    refine lv_iload hx hb dX1_copy_141 (lv_at hl 4 rfl) ?_
    refine lv_iload hx hb dX1_copy_143 (lv_at hl 3 rfl) ?_
    refine lv_icmp_ge (tgt := 176) hx hb dX1_copy_145 (by decide) (fun c_23 => ?_) (fun c_23 => ?_)
    · have hw := hw.1 c_23
      refine lv_iconst (v := 1) hx hb dX1_copy_176 (by decide) ?_
      exact x_iret F C hw dX1_copy_177
    · have hw := hw.2 c_23
      refine lv_aload_n hx hb dX1_copy_148 rfl (lv_at hl 0 rfl) ?_
      refine x1_g53 F C dX1_copy_149 ?_
      refine lv_bipush (v := 24) hx hb dX1_copy_152 (by decide) ?_
      refine lv_iload_n hx hb dX1_copy_154 rfl (lv_at hl 1 rfl) ?_
      refine lv_imul hx hb dX1_copy_155 ?_
      refine lv_iload hx hb dX1_copy_156 (lv_at hl 2 rfl) ?_
      refine lv_iadd hx hb dX1_copy_158 ?_
      refine lv_iload hx hb dX1_copy_159 (lv_at hl 4 rfl) ?_
      refine lv_iadd hx hb dX1_copy_161 ?_
      refine lv_aload_n hx hb dX1_copy_162 rfl (lv_at hl 0 rfl) ?_
      refine x1_g54 F C dX1_copy_163 ?_
      refine lv_iload hx hb dX1_copy_166 (lv_at hl 4 rfl) ?_
      obtain ⟨h_24, hw⟩ := hw
      refine x1_ld54 F C h_24 dX1_copy_168 ?_
      obtain ⟨h_25, hw⟩ := hw
      refine x1_st53 F C h_25 dX1_copy_169 (fun H locs s_26 es_26 C => ?_)
      have hw := hw s_26 es_26
      obtain ⟨x6_27, ex6_27⟩ : ∃ y : Int32, y = x6 + 1 := ⟨_, rfl⟩
      have hw := hw x6_27 ex6_27
      refine lv_iinc (v := x6_27) (lv' := [(6, .int x6_27), (0, .ref o), (3, .int x3), (4, .int x4), (5, .int x5)]) hx hb dX1_copy_170 hl (k := 4) rfl (by rw [ex6_27]; rfl) (by decide) rfl (fun ls hl => ?_)
      refine lv_goto (tgt := 141) hx hb dX1_copy_173 (by decide) ?_
      exact hk141 x3 x4 x5 x6_27 s_26 _ _ _ hw C (lv_sub hl [1, 2, 3, 4, 0] rfl)
set_option maxHeartbeats 4000000 in
theorem kX1_copy_104  {post : Int32 → CS → Prop}  (F : Fx p s m args meth c cX1_copy 7 RX1 (some .int) D d E A) : ∀ (fu : Nat) (x1 : Int32) (x2 : Int32) (x3 : Int32) (x4 : Int32) (x5 : Int32) (x6 : Int32) (st : CS) (H : Heap) (locs : List Loc) (ls : Array Slot), wX1_copy_104  post  fu x1 x2 x3 x4 x5 x6 st → Cx D (wM o ad d) A s st H locs → lv_has ls 7 [(0, .ref o), (1, .int x1), (2, .int x2), (3, .int x3), (4, .int x4), (5, .int x5), (6, .int x6)] → W p l e (headSpec (ws_ yX1_copy cX1_copy 7 (some .int)) rmX1_copy).room s m args below meth c H locs 0 0 (QI below D d E (wM o ad d) A args s 0 0 post) (F0 m 104 ls []) := by
  obtain ⟨hx, hb, hr, hml, hown, hts, hlk, hA, hK, hE⟩ := id F
  intro fu
  induction fu with
  | zero =>
    intro x1 x2 x3 x4 x5 x6 st H locs ls hw
    exact hw.elim
  | succ n ih =>
    have hk104 := ih
    intro x1 x2 x3 x4 x5 x6 st H locs ls hw C hl
    unfold wX1_copy_104 at hw
    refine lv_iload hx hb dX1_copy_104 (lv_at hl 6 rfl) ?_
    refine lv_iload hx hb dX1_copy_106 (lv_at hl 5 rfl) ?_
    refine lv_icmp_ge (tgt := 138) hx hb dX1_copy_108 (by decide) (fun c_22 => ?_) (fun c_22 => ?_)
    · have hw := hw.1 c_22
      refine lv_iconst (v := 0) hx hb dX1_copy_138 (by decide) ?_
      refine lv_istore (lv' := [(6, .int 0), (0, .ref o), (1, .int x1), (2, .int x2), (3, .int x3), (4, .int x4), (5, .int x5)]) hx hb dX1_copy_139 hl (by decide) rfl (fun ls hl => ?_)
      obtain ⟨fu, hw⟩ := hw
      exact kX1_copy_141  F  fu x3 x4 x5 0 st _ _ _ hw C (lv_sub hl [1, 4, 5, 6, 0] rfl)
    · have hw := hw.2 c_22
      refine lv_aload_n hx hb dX1_copy_111 rfl (lv_at hl 0 rfl) ?_
      refine x1_g54 F C dX1_copy_112 ?_
      refine lv_iload hx hb dX1_copy_115 (lv_at hl 6 rfl) ?_
      refine lv_aload_n hx hb dX1_copy_117 rfl (lv_at hl 0 rfl) ?_
      refine x1_g53 F C dX1_copy_118 ?_
      refine lv_bipush (v := 24) hx hb dX1_copy_121 (by decide) ?_
      refine lv_iload_n hx hb dX1_copy_123 rfl (lv_at hl 1 rfl) ?_
      refine lv_imul hx hb dX1_copy_124 ?_
      refine lv_iload_n hx hb dX1_copy_125 rfl (lv_at hl 2 rfl) ?_
      refine lv_iadd hx hb dX1_copy_126 ?_
      refine lv_iload hx hb dX1_copy_127 (lv_at hl 6 rfl) ?_
      refine lv_iadd hx hb dX1_copy_129 ?_
      obtain ⟨h_28, hw⟩ := hw
      refine x1_ld53 F C h_28 dX1_copy_130 ?_
      obtain ⟨h_29, hw⟩ := hw
      refine x1_st54 F C h_29 dX1_copy_131 (fun H locs s_30 es_30 C => ?_)
      have hw := hw s_30 es_30
      obtain ⟨x6_31, ex6_31⟩ : ∃ y : Int32, y = x6 + 1 := ⟨_, rfl⟩
      have hw := hw x6_31 ex6_31
      refine lv_iinc (v := x6_31) (lv' := [(6, .int x6_31), (0, .ref o), (1, .int x1), (2, .int x2), (3, .int x3), (4, .int x4), (5, .int x5)]) hx hb dX1_copy_132 hl (k := 6) rfl (by rw [ex6_31]; rfl) (by decide) rfl (fun ls hl => ?_)
      refine lv_goto (tgt := 104) hx hb dX1_copy_135 (by decide) ?_
      exact hk104 x1 x2 x3 x4 x5 x6_31 s_30 _ _ _ hw C (lv_sub hl [1, 2, 3, 4, 5, 6, 0] rfl)
theorem ctX1_copy (hE : Em E)  {post : Int32 → CS → Prop} {s0 : CS} {p0 p1 p2 p3 p4 : Int32} (hw : wpX1_copy  post s0 p0 p1 p2 p3 p4) : CtI l yX1_copy (ws_ yX1_copy cX1_copy 7 (some .int)) rmX1_copy D d E (wM o ad d) 0 0 [.ref o, .int p0, .int p1, .int p2, .int p3, .int p4] s0 post := by
  refine CtI.of hE (by decide) rfl (Nat.le_of_ble_eq_true rfl) ?_
  intro p e s m below meth c A ls F C hl
  have hl : lv_has ls 7 [(0, .ref o), (1, .int p0), (2, .int p1), (3, .int p2), (4, .int p3), (5, .int p4)] := hl
  unfold wpX1_copy at hw
  obtain ⟨hx, hb, hr, hml, hown, hts, hlk, hA, hK, -⟩ := id F
  refine lv_iload_n hx hb dX1_copy_0 rfl (lv_at hl 1 rfl) ?_
  refine x_callSI (rest := []) F C (ctX1_isSheet hE hw) (va_cwS 1 hts (lw_S q1273 q1274 q71 q1275) rfl rfl rfl (by decide +kernel) ⟨Nat.le_of_ble_eq_true rfl, Nat.le_of_ble_eq_true rfl⟩) rfl hl.1 rfl (Nat.le_of_ble_eq_true rfl) dX1_copy_1 ⟨Nat.zero_le _, Nat.zero_le _⟩ (fun r_2 s_1 H locs hw C => ?_)
  refine lv_if_eq (tgt := 14) hx hb dX1_copy_4 (by decide) (fun c_3 => ?_) (fun c_3 => ?_)
  · have hw := hw.1 c_3
    refine lv_iconst (v := (-1)) hx hb dX1_copy_14 (by decide) ?_
    exact x_iret F C hw dX1_copy_15
  · have hw := hw.2 c_3
    refine lv_iload_n hx hb dX1_copy_7 rfl (lv_at hl 3 rfl) ?_
    refine x_callSI (rest := []) F C (ctX1_isSheet hE hw) (va_cwS 1 hts (lw_S q1273 q1274 q71 q1275) rfl rfl rfl (by decide +kernel) ⟨Nat.le_of_ble_eq_true rfl, Nat.le_of_ble_eq_true rfl⟩) rfl hl.1 rfl (Nat.le_of_ble_eq_true rfl) dX1_copy_8 ⟨Nat.zero_le _, Nat.zero_le _⟩ (fun r_5 s_4 H locs hw C => ?_)
    refine lv_if_ne (tgt := 16) hx hb dX1_copy_11 (by decide) (fun c_6 => ?_) (fun c_6 => ?_)
    · have hw := hw.2 c_6
      refine lv_iload hx hb dX1_copy_16 (lv_at hl 5 rfl) ?_
      refine lv_if_ge (tgt := 27) hx hb dX1_copy_18 (by decide) (fun c_7 => ?_) (fun c_7 => ?_)
      · have hw := hw.1 c_7
        refine lv_aload_n hx hb dX1_copy_27 rfl (lv_at hl 0 rfl) ?_
        refine x1_g52 F C dX1_copy_28 ?_
        refine lv_iload_n hx hb dX1_copy_31 rfl (lv_at hl 1 rfl) ?_
        obtain ⟨h_8, hw⟩ := hw
        refine x1_ld52 F C h_8 dX1_copy_32 ?_
        refine lv_if_lt (tgt := 45) hx hb dX1_copy_33 (by decide) (fun c_9 => ?_) (fun c_9 => ?_)
        · have hw := hw.1 c_9
          exact kX1_copy_45  F  s_4 _ _ _ hw C (lv_sub hl [0] rfl)
        · have hw := hw.2 c_9
          refine lv_aload_n hx hb dX1_copy_36 rfl (lv_at hl 0 rfl) ?_
          refine x1_g52 F C dX1_copy_37 ?_
          refine lv_iload_n hx hb dX1_copy_40 rfl (lv_at hl 3 rfl) ?_
          obtain ⟨h_12, hw⟩ := hw
          refine x1_ld52 F C h_12 dX1_copy_41 ?_
          refine lv_if_ge (tgt := 51) hx hb dX1_copy_42 (by decide) (fun c_13 => ?_) (fun c_13 => ?_)
          · have hw := hw.1 c_13
            refine lv_iload_n hx hb dX1_copy_51 rfl (lv_at hl 2 rfl) ?_
            refine lv_if_lt (tgt := 95) hx hb dX1_copy_52 (by decide) (fun c_14 => ?_) (fun c_14 => ?_)
            · have hw := hw.1 c_14
              exact kX1_copy_95  F  s_4 _ _ _ hw C (lv_sub hl [0] rfl)
            · have hw := hw.2 c_14
              refine lv_iload hx hb dX1_copy_55 (lv_at hl 4 rfl) ?_
              refine lv_if_lt (tgt := 95) hx hb dX1_copy_57 (by decide) (fun c_17 => ?_) (fun c_17 => ?_)
              · have hw := hw.1 c_17
                exact kX1_copy_95  F  s_4 _ _ _ hw C (lv_sub hl [0] rfl)
              · have hw := hw.2 c_17
                refine lv_iload_n hx hb dX1_copy_60 rfl (lv_at hl 2 rfl) ?_
                refine lv_i2l (v := p1.toInt64) hx hb dX1_copy_61 rfl ?_
                refine lv_iload hx hb dX1_copy_62 (lv_at hl 5 rfl) ?_
                refine lv_i2l (v := p4.toInt64) hx hb dX1_copy_64 rfl ?_
                refine lv_ladd hx hb dX1_copy_65 ?_
                refine lv_aload_n hx hb dX1_copy_66 rfl (lv_at hl 0 rfl) ?_
                refine x1_g52 F C dX1_copy_67 ?_
                refine lv_iload_n hx hb dX1_copy_70 rfl (lv_at hl 1 rfl) ?_
                obtain ⟨h_18, hw⟩ := hw
                refine x1_ld52 F C h_18 dX1_copy_71 ?_
                refine lv_i2l (v := (sA s_4 52 p0.toNatClampNeg).toInt64) hx hb dX1_copy_72 rfl ?_
                refine W.lcmp hx hb dX1_copy_73 ?_
                refine lv_if_gt (tgt := 95) hx hb dX1_copy_74 (by decide) (fun c_19 => ?_) (fun c_19 => ?_)
                · have hw := hw.1 ((lg_cmp_gt _ _).mp c_19)
                  exact kX1_copy_95  F  s_4 _ _ _ hw C (lv_sub hl [0] rfl)
                · have hw := hw.2 (fun h9 => c_19 ((lg_cmp_gt _ _).mpr h9))
                  refine lv_iload hx hb dX1_copy_77 (lv_at hl 4 rfl) ?_
                  refine lv_i2l (v := p3.toInt64) hx hb dX1_copy_79 rfl ?_
                  refine lv_iload hx hb dX1_copy_80 (lv_at hl 5 rfl) ?_
                  refine lv_i2l (v := p4.toInt64) hx hb dX1_copy_82 rfl ?_
                  refine lv_ladd hx hb dX1_copy_83 ?_
                  refine lv_aload_n hx hb dX1_copy_84 rfl (lv_at hl 0 rfl) ?_
                  refine x1_g52 F C dX1_copy_85 ?_
                  refine lv_iload_n hx hb dX1_copy_88 rfl (lv_at hl 3 rfl) ?_
                  obtain ⟨h_20, hw⟩ := hw
                  refine x1_ld52 F C h_20 dX1_copy_89 ?_
                  refine lv_i2l (v := (sA s_4 52 p2.toNatClampNeg).toInt64) hx hb dX1_copy_90 rfl ?_
                  refine W.lcmp hx hb dX1_copy_91 ?_
                  refine lv_if_le (tgt := 101) hx hb dX1_copy_92 (by decide) (fun c_21 => ?_) (fun c_21 => ?_)
                  · have hw := hw.1 ((lg_cmp_le _ _).mp c_21)
                    refine lv_iconst (v := 0) hx hb dX1_copy_101 (by decide) ?_
                    refine lv_istore (lv' := [(6, .int 0), (0, .ref o), (1, .int p0), (2, .int p1), (3, .int p2), (4, .int p3), (5, .int p4)]) hx hb dX1_copy_102 hl (by decide) rfl (fun ls hl => ?_)
                    obtain ⟨fu, hw⟩ := hw
                    exact kX1_copy_104  F  fu p0 p1 p2 p3 p4 0 s_4 _ _ _ hw C (lv_sub hl [1, 2, 3, 4, 5, 6, 0] rfl)
                  · have hw := hw.2 (fun h9 => c_21 ((lg_cmp_le _ _).mpr h9))
                    exact kX1_copy_95  F  s_4 _ _ _ hw C (lv_sub hl [0] rfl)
          · have hw := hw.2 c_13
            exact kX1_copy_45  F  s_4 _ _ _ hw C (lv_sub hl [0] rfl)
      · have hw := hw.2 c_7
        refine lv_aload_n hx hb dX1_copy_21 rfl (lv_at hl 0 rfl) ?_
        refine lv_iconst (v := 5) hx hb dX1_copy_22 (by decide) ?_
        refine x_callI (rest := []) (ci := 5) (q := (RX1, TX1, 55)) F C (ctX1_meets hE hw) (cwV 1 hts (lw_V q1082 q1084 qs42 q71 q1085) rfl rfl rfl (by decide +kernel) ⟨Nat.le_of_ble_eq_true rfl, Nat.le_of_ble_eq_true rfl⟩) rfl rfl rfl hl.1 rfl (Nat.le_of_ble_eq_true rfl) dX1_copy_23 ⟨Nat.zero_le _, Nat.zero_le _⟩ (fun r_33 s_32 H locs hw C => ?_)
        exact x_iret F C hw dX1_copy_26
    · have hw := hw.1 c_6
      refine lv_iconst (v := (-1)) hx hb dX1_copy_14 (by decide) ?_
      exact x_iret F C hw dX1_copy_15

abbrev rmX1_upper : Room := { frames := 0, cells := 0, slots := 0, locals := 0 }
def wpX1_upper  (post : Int64 → CS → Prop) (s0 : CS)  : Prop := (post (sL s0 44) s0)
theorem ctX1_upper (hE : Em E)  {post : Int64 → CS → Prop} {s0 : CS}  (hw : wpX1_upper  post s0 ) : CtL l yX1_upper (ws_ yX1_upper cX1_upper 1 (some .long)) rmX1_upper D d E (wM o ad d) 0 0 [.ref o] s0 post := by
  refine CtL.of hE (by decide) rfl (Nat.le_of_ble_eq_true rfl) ?_
  intro p e s m below meth c A ls F C hl
  have hl : lv_has ls 1 [(0, .ref o)] := hl
  unfold wpX1_upper at hw
  obtain ⟨hx, hb, hr, hml, hown, hts, hlk, hA, hK, -⟩ := id F
  refine lv_aload_n hx hb dX1_upper_0 rfl (lv_at hl 0 rfl) ?_
  refine x1_g44 F C dX1_upper_1 ?_
  exact x_lret F C hw dX1_upper_4

abbrev rmX1_lower : Room := { frames := 0, cells := 0, slots := 0, locals := 0 }
def wpX1_lower  (post : Int64 → CS → Prop) (s0 : CS)  : Prop := (post (sL s0 45) s0)
theorem ctX1_lower (hE : Em E)  {post : Int64 → CS → Prop} {s0 : CS}  (hw : wpX1_lower  post s0 ) : CtL l yX1_lower (ws_ yX1_lower cX1_lower 1 (some .long)) rmX1_lower D d E (wM o ad d) 0 0 [.ref o] s0 post := by
  refine CtL.of hE (by decide) rfl (Nat.le_of_ble_eq_true rfl) ?_
  intro p e s m below meth c A ls F C hl
  have hl : lv_has ls 1 [(0, .ref o)] := hl
  unfold wpX1_lower at hw
  obtain ⟨hx, hb, hr, hml, hown, hts, hlk, hA, hK, -⟩ := id F
  refine lv_aload_n hx hb dX1_lower_0 rfl (lv_at hl 0 rfl) ?_
  refine x1_g45 F C dX1_lower_1 ?_
  exact x_lret F C hw dX1_lower_4

abbrev rmX1_tellsCount : Room := { frames := 0, cells := 0, slots := 0, locals := 0 }
def wpX1_tellsCount  (post : Int32 → CS → Prop) (s0 : CS) (p0 : Int32) : Prop := ((p0 = 0 → (post (sI s0 2) s0)) ∧ (¬ p0 = 0 → ((p0 = 1 → (post (sI s0 6) s0)) ∧ (¬ p0 = 1 → ((p0 = 2 → (post (sI s0 14) s0)) ∧ (¬ p0 = 2 → (post (sI s0 19) s0)))))))
theorem ctX1_tellsCount (hE : Em E)  {post : Int32 → CS → Prop} {s0 : CS} {p0 : Int32} (hw : wpX1_tellsCount  post s0 p0) : CtI l yX1_tellsCount (ws_ yX1_tellsCount cX1_tellsCount 2 (some .int)) rmX1_tellsCount D d E (wM o ad d) 0 0 [.ref o, .int p0] s0 post := by
  refine CtI.of hE (by decide) rfl (Nat.le_of_ble_eq_true rfl) ?_
  intro p e s m below meth c A ls F C hl
  have hl : lv_has ls 2 [(0, .ref o), (1, .int p0)] := hl
  unfold wpX1_tellsCount at hw
  obtain ⟨hx, hb, hr, hml, hown, hts, hlk, hA, hK, -⟩ := id F
  refine lv_iload_n hx hb dX1_tellsCount_0 rfl (lv_at hl 1 rfl) ?_
  refine lv_if_ne (tgt := 11) hx hb dX1_tellsCount_1 (by decide) (fun c_1 => ?_) (fun c_1 => ?_)
  · have hw := hw.2 c_1
    refine lv_iload_n hx hb dX1_tellsCount_11 rfl (lv_at hl 1 rfl) ?_
    refine lv_iconst (v := 1) hx hb dX1_tellsCount_12 (by decide) ?_
    refine lv_icmp_ne (tgt := 23) hx hb dX1_tellsCount_13 (by decide) (fun c_2 => ?_) (fun c_2 => ?_)
    · have hw := hw.2 c_2
      refine lv_iload_n hx hb dX1_tellsCount_23 rfl (lv_at hl 1 rfl) ?_
      refine lv_iconst (v := 2) hx hb dX1_tellsCount_24 (by decide) ?_
      refine lv_icmp_ne (tgt := 35) hx hb dX1_tellsCount_25 (by decide) (fun c_3 => ?_) (fun c_3 => ?_)
      · have hw := hw.2 c_3
        refine lv_aload_n hx hb dX1_tellsCount_35 rfl (lv_at hl 0 rfl) ?_
        refine x1_g19 F C dX1_tellsCount_36 ?_
        exact x_iret F C hw dX1_tellsCount_39
      · have hw := hw.1 c_3
        refine lv_aload_n hx hb dX1_tellsCount_28 rfl (lv_at hl 0 rfl) ?_
        refine x1_g14 F C dX1_tellsCount_29 ?_
        refine lv_goto (tgt := 39) hx hb dX1_tellsCount_32 (by decide) ?_
        exact x_iret F C hw dX1_tellsCount_39
    · have hw := hw.1 c_2
      refine lv_aload_n hx hb dX1_tellsCount_16 rfl (lv_at hl 0 rfl) ?_
      refine x1_g6 F C dX1_tellsCount_17 ?_
      refine lv_goto (tgt := 39) hx hb dX1_tellsCount_20 (by decide) ?_
      exact x_iret F C hw dX1_tellsCount_39
  · have hw := hw.1 c_1
    refine lv_aload_n hx hb dX1_tellsCount_4 rfl (lv_at hl 0 rfl) ?_
    refine x1_g2 F C dX1_tellsCount_5 ?_
    refine lv_goto (tgt := 39) hx hb dX1_tellsCount_8 (by decide) ?_
    exact x_iret F C hw dX1_tellsCount_39

abbrev rmX1_count : Room := { frames := 1, cells := 0, slots := 0, locals := 22 }
def wpX1_count  (post : Int32 → CS → Prop) (s0 : CS) (p0 : Int32) : Prop := (wpX1_in (fun r_2 s_1 => ((r_2 = 0 → (post (-1) s_1)) ∧ (¬ r_2 = 0 → (wpX1_tellsCount (fun r_5 s_4 => (post r_5 s_4)) s_1 p0)))) s0 p0 0 3)
theorem ctX1_count (hE : Em E)  {post : Int32 → CS → Prop} {s0 : CS} {p0 : Int32} (hw : wpX1_count  post s0 p0) : CtI l yX1_count (ws_ yX1_count cX1_count 2 (some .int)) rmX1_count D d E (wM o ad d) 0 0 [.ref o, .int p0] s0 post := by
  refine CtI.of hE (by decide) rfl (Nat.le_of_ble_eq_true rfl) ?_
  intro p e s m below meth c A ls F C hl
  have hl : lv_has ls 2 [(0, .ref o), (1, .int p0)] := hl
  unfold wpX1_count at hw
  obtain ⟨hx, hb, hr, hml, hown, hts, hlk, hA, hK, -⟩ := id F
  refine lv_iload_n hx hb dX1_count_0 rfl (lv_at hl 1 rfl) ?_
  refine lv_iconst (v := 0) hx hb dX1_count_1 (by decide) ?_
  refine lv_iconst (v := 3) hx hb dX1_count_2 (by decide) ?_
  refine x_callSI (rest := []) F C (ctX1_in hE hw) (va_cwS 3 hts (lw_S q1035 q1036 q71 q1037) rfl rfl rfl (by decide +kernel) ⟨Nat.le_of_ble_eq_true rfl, Nat.le_of_ble_eq_true rfl⟩) rfl hl.1 rfl (Nat.le_of_ble_eq_true rfl) dX1_count_3 ⟨Nat.zero_le _, Nat.zero_le _⟩ (fun r_2 s_1 H locs hw C => ?_)
  refine lv_if_eq (tgt := 17) hx hb dX1_count_6 (by decide) (fun c_3 => ?_) (fun c_3 => ?_)
  · have hw := hw.1 c_3
    refine lv_iconst (v := (-1)) hx hb dX1_count_17 (by decide) ?_
    exact x_iret F C hw dX1_count_18
  · have hw := hw.2 c_3
    refine lv_aload_n hx hb dX1_count_9 rfl (lv_at hl 0 rfl) ?_
    refine lv_iload_n hx hb dX1_count_10 rfl (lv_at hl 1 rfl) ?_
    refine x_callI (rest := []) (ci := 5) (q := (RX1, TX1, 55)) F C (ctX1_tellsCount hE hw) (cwV 1 hts (lw_V q1304 q1306 qs68 q71 q1307) rfl rfl rfl (by decide +kernel) ⟨Nat.le_of_ble_eq_true rfl, Nat.le_of_ble_eq_true rfl⟩) rfl rfl rfl hl.1 rfl (Nat.le_of_ble_eq_true rfl) dX1_count_11 ⟨Nat.zero_le _, Nat.zero_le _⟩ (fun r_5 s_4 H locs hw C => ?_)
    refine lv_goto (tgt := 18) hx hb dX1_count_14 (by decide) ?_
    exact x_iret F C hw dX1_count_18

abbrev rmX1_finding : Room := { frames := 0, cells := 0, slots := 0, locals := 0 }
def wpX1_finding  (post : Int32 → CS → Prop) (s0 : CS)  : Prop := (post (sI s0 0) s0)
theorem ctX1_finding (hE : Em E)  {post : Int32 → CS → Prop} {s0 : CS}  (hw : wpX1_finding  post s0 ) : CtI l yX1_finding (ws_ yX1_finding cX1_finding 1 (some .int)) rmX1_finding D d E (wM o ad d) 0 0 [.ref o] s0 post := by
  refine CtI.of hE (by decide) rfl (Nat.le_of_ble_eq_true rfl) ?_
  intro p e s m below meth c A ls F C hl
  have hl : lv_has ls 1 [(0, .ref o)] := hl
  unfold wpX1_finding at hw
  obtain ⟨hx, hb, hr, hml, hown, hts, hlk, hA, hK, -⟩ := id F
  refine lv_aload_n hx hb dX1_finding_0 rfl (lv_at hl 0 rfl) ?_
  refine x1_g0 F C dX1_finding_1 ?_
  exact x_iret F C hw dX1_finding_4

abbrev rmX1_findings : Room := { frames := 1, cells := 0, slots := 0, locals := 22 }
def wpX1_findings  (post : Int32 → CS → Prop) (s0 : CS) (p0 : Int32) : Prop := (wpX1_in (fun r_2 s_1 => ((r_2 = 0 → (post (-1) s_1)) ∧ (¬ r_2 = 0 → (vp_in p0 6 ∧ (post (sA s_1 1 p0.toNatClampNeg) s_1))))) s0 p0 1 5)
theorem ctX1_findings (hE : Em E)  {post : Int32 → CS → Prop} {s0 : CS} {p0 : Int32} (hw : wpX1_findings  post s0 p0) : CtI l yX1_findings (ws_ yX1_findings cX1_findings 2 (some .int)) rmX1_findings D d E (wM o ad d) 0 0 [.ref o, .int p0] s0 post := by
  refine CtI.of hE (by decide) rfl (Nat.le_of_ble_eq_true rfl) ?_
  intro p e s m below meth c A ls F C hl
  have hl : lv_has ls 2 [(0, .ref o), (1, .int p0)] := hl
  unfold wpX1_findings at hw
  obtain ⟨hx, hb, hr, hml, hown, hts, hlk, hA, hK, -⟩ := id F
  refine lv_iload_n hx hb dX1_findings_0 rfl (lv_at hl 1 rfl) ?_
  refine lv_iconst (v := 1) hx hb dX1_findings_1 (by decide) ?_
  refine lv_iconst (v := 5) hx hb dX1_findings_2 (by decide) ?_
  refine x_callSI (rest := []) F C (ctX1_in hE hw) (va_cwS 3 hts (lw_S q1035 q1036 q71 q1037) rfl rfl rfl (by decide +kernel) ⟨Nat.le_of_ble_eq_true rfl, Nat.le_of_ble_eq_true rfl⟩) rfl hl.1 rfl (Nat.le_of_ble_eq_true rfl) dX1_findings_3 ⟨Nat.zero_le _, Nat.zero_le _⟩ (fun r_2 s_1 H locs hw C => ?_)
  refine lv_if_eq (tgt := 18) hx hb dX1_findings_6 (by decide) (fun c_3 => ?_) (fun c_3 => ?_)
  · have hw := hw.1 c_3
    refine lv_iconst (v := (-1)) hx hb dX1_findings_18 (by decide) ?_
    exact x_iret F C hw dX1_findings_19
  · have hw := hw.2 c_3
    refine lv_aload_n hx hb dX1_findings_9 rfl (lv_at hl 0 rfl) ?_
    refine x1_g1 F C dX1_findings_10 ?_
    refine lv_iload_n hx hb dX1_findings_13 rfl (lv_at hl 1 rfl) ?_
    obtain ⟨h_4, hw⟩ := hw
    refine x1_ld1 F C h_4 dX1_findings_14 ?_
    refine lv_goto (tgt := 19) hx hb dX1_findings_15 (by decide) ?_
    exact x_iret F C hw dX1_findings_19

abbrev rmX1_digest : Room := { frames := 2, cells := 0, slots := 0, locals := 46 }
def wX1_digest_179  (post : Int64 → CS → Prop) (k144 : Int64 → Int32 → CS → Prop) : Nat → Int64 → Int32 → Int32 → CS → Prop
  | 0 => fun _ _ _ _ => False
  | n + 1 => fun x1 x3 x4 st => (vp_in x3 4 ∧ (((sA st 52 x3.toNatClampNeg) ≤ x4 → (∀ x3_11 : Int32, x3_11 = x3 + 1 → (k144 x1 x3_11 st))) ∧ (¬ (sA st 52 x3.toNatClampNeg) ≤ x4 → (vp_in ((24 * x3) + x4) 96 ∧ (∀ x1_13 : Int64, x1_13 = ((31 * x1) + ((sA st 53 ((24 * x3) + x4).toNatClampNeg).toInt64)) → (∀ x4_14 : Int32, x4_14 = x4 + 1 → (wX1_digest_179  post k144 n x1_13 x3 x4_14 st)))))))
def wX1_digest_173  (post : Int64 → CS → Prop) (k144 : Int64 → Int32 → CS → Prop) (x3 : Int32) (y0 : Int32) (y1 : Int64) (st : CS) : Prop := (∀ x1_8 : Int64, x1_8 = (y1 + y0.toInt64) → (∃ fu : Nat, wX1_digest_179  post k144 fu x1_8 x3 0 st))
def wX1_digest_144  (post : Int64 → CS → Prop)  : Nat → Int64 → Int32 → CS → Prop
  | 0 => fun _ _ _ => False
  | n + 1 => fun x1 x3 st => ((4 ≤ x3 → (post x1 st)) ∧ (¬ 4 ≤ x3 → (vp_in x3 4 ∧ ((0 ≤ (sA st 52 x3.toNatClampNeg) → (vp_in x3 4 ∧ (wX1_digest_173  post (wX1_digest_144  post  n) x3 (sA st 52 x3.toNatClampNeg) (31 * x1) st))) ∧ (¬ 0 ≤ (sA st 52 x3.toNatClampNeg) → (wX1_digest_173  post (wX1_digest_144  post  n) x3 (-1) (31 * x1) st))))))
def wX1_digest_109  (post : Int64 → CS → Prop) (k98 : Int64 → Int32 → CS → Prop) : Nat → Int64 → Int32 → Int32 → CS → Prop
  | 0 => fun _ _ _ _ => False
  | n + 1 => fun x1 x3 x4 st => ((3 < x4 → (∀ x3_16 : Int32, x3_16 = x3 + 1 → (k98 x1 x3_16 st))) ∧ (¬ 3 < x4 → (wpX1_tellsLine (fun r_18 s_17 => (∀ x1_19 : Int64, x1_19 = ((31 * x1) + r_18.toInt64) → (∀ x4_20 : Int32, x4_20 = x4 + 1 → (wX1_digest_109  post k98 n x1_19 x3 x4_20 s_17)))) st x3 x4)))
def wX1_digest_98  (post : Int64 → CS → Prop)  : Nat → Int64 → Int32 → CS → Prop
  | 0 => fun _ _ _ => False
  | n + 1 => fun x1 x3 st => (((sI st 6) ≤ x3 → (∃ fu : Nat, wX1_digest_144  post  fu x1 0 st)) ∧ (¬ (sI st 6) ≤ x3 → (∃ fu : Nat, wX1_digest_109  post (wX1_digest_98  post  n) fu x1 x3 0 st)))
def wX1_digest_43  (post : Int64 → CS → Prop) (k32 : Int64 → Int32 → CS → Prop) : Nat → Int64 → Int32 → Int32 → CS → Prop
  | 0 => fun _ _ _ _ => False
  | n + 1 => fun x1 x3 x4 st => ((4 < x4 → (vp_in x3 24 ∧ (wpX1_allPaid (fun r_24 s_23 => (∀ x1_25 : Int64, x1_25 = ((31 * x1) + (((sA st 50 x3.toNatClampNeg) - r_24).toInt64)) → (∀ x3_26 : Int32, x3_26 = x3 + 1 → (k32 x1_25 x3_26 s_23)))) st x3))) ∧ (¬ 4 < x4 → (wpX1_tells (fun r_28 s_27 => (∀ x1_29 : Int64, x1_29 = ((31 * x1) + r_28.toInt64) → (∀ x4_30 : Int32, x4_30 = x4 + 1 → (wX1_digest_43  post k32 n x1_29 x3 x4_30 s_27)))) st x3 x4)))
def wX1_digest_32  (post : Int64 → CS → Prop)  : Nat → Int64 → Int32 → CS → Prop
  | 0 => fun _ _ _ => False
  | n + 1 => fun x1 x3 st => (((sI st 2) ≤ x3 → (∃ fu : Nat, wX1_digest_98  post  fu x1 0 st)) ∧ (¬ (sI st 2) ≤ x3 → (∃ fu : Nat, wX1_digest_43  post (wX1_digest_32  post  n) fu x1 x3 0 st)))
def wX1_digest_6  (post : Int64 → CS → Prop)  : Nat → Int64 → Int32 → CS → Prop
  | 0 => fun _ _ _ => False
  | n + 1 => fun x1 x3 st => ((3 < x3 → (∃ fu : Nat, wX1_digest_32  post  fu x1 0 st)) ∧ (¬ 3 < x3 → (wpX1_tellsCount (fun r_32 s_31 => (∀ x1_33 : Int64, x1_33 = ((31 * x1) + r_32.toInt64) → (∀ x3_34 : Int32, x3_34 = x3 + 1 → (wX1_digest_6  post  n x1_33 x3_34 s_31)))) st x3)))
def wpX1_digest  (post : Int64 → CS → Prop) (s0 : CS)  : Prop := (∃ fu : Nat, wX1_digest_6  post  fu 17 0 s0)
set_option maxHeartbeats 4000000 in
theorem kX1_digest_179  {post : Int64 → CS → Prop} {k144 : Int64 → Int32 → CS → Prop} (F : Fx p s m args meth c cX1_digest 5 RX1 (some .long) D d E A) (hk144 : ∀ (x1 : Int64) (x3 : Int32) (st : CS) (H : Heap) (locs : List Loc) (ls : Array Slot), k144 x1 x3 st → Cx D (wM o ad d) A s st H locs → lv_has ls 5 [(0, .ref o), (1, .long x1), (3, .int x3)] → W p l e (headSpec (ws_ yX1_digest cX1_digest 5 (some .long)) rmX1_digest).room s m args below meth c H locs 0 0 (QL below D d E (wM o ad d) A args s 0 0 post) (F0 m 144 ls [])) : ∀ (fu : Nat) (x1 : Int64) (x3 : Int32) (x4 : Int32) (st : CS) (H : Heap) (locs : List Loc) (ls : Array Slot), wX1_digest_179  post k144 fu x1 x3 x4 st → Cx D (wM o ad d) A s st H locs → lv_has ls 5 [(0, .ref o), (1, .long x1), (3, .int x3), (4, .int x4)] → W p l e (headSpec (ws_ yX1_digest cX1_digest 5 (some .long)) rmX1_digest).room s m args below meth c H locs 0 0 (QL below D d E (wM o ad d) A args s 0 0 post) (F0 m 179 ls []) := by
  obtain ⟨hx, hb, hr, hml, hown, hts, hlk, hA, hK, hE⟩ := id F
  intro fu
  induction fu with
  | zero =>
    intro x1 x3 x4 st H locs ls hw
    exact hw.elim
  | succ n ih =>
    have hk179 := ih
    intro x1 x3 x4 st H locs ls hw C hl
    unfold wX1_digest_179 at hw
    refine lv_iload hx hb dX1_digest_179 (lv_at hl 3 rfl) ?_
    refine lv_aload_n hx hb dX1_digest_181 rfl (lv_at hl 0 rfl) ?_
    refine x1_g52 F C dX1_digest_182 ?_
    refine lv_iload_n hx hb dX1_digest_185 rfl (lv_at hl 2 rfl) ?_
    obtain ⟨h_9, hw⟩ := hw
    refine x1_ld52 F C h_9 dX1_digest_186 ?_
    refine lv_icmp_ge (tgt := 216) hx hb dX1_digest_187 (by decide) (fun c_10 => ?_) (fun c_10 => ?_)
    · have hw := hw.1 c_10
      obtain ⟨x3_11, ex3_11⟩ : ∃ y : Int32, y = x3 + 1 := ⟨_, rfl⟩
      have hw := hw x3_11 ex3_11
      refine lv_iinc (v := x3_11) (lv' := [(3, .int x3_11), (0, .ref o), (1, .long x1), (4, .int x4)]) hx hb dX1_digest_216 hl (k := 2) rfl (by rw [ex3_11]; rfl) (by decide) rfl (fun ls hl => ?_)
      refine lv_goto (tgt := 144) hx hb dX1_digest_219 (by decide) ?_
      exact hk144 x1 x3_11 st _ _ _ hw C (lv_sub hl [1, 2, 0] rfl)
    · have hw := hw.2 c_10
      refine lv_ldc2 hx hb hown (hts _ q1321) dX1_digest_190 ?_
      refine lv_lload_n hx hb dX1_digest_193 rfl (lv_at hl 1 rfl) ?_
      refine lv_lmul hx hb dX1_digest_194 ?_
      refine lv_aload_n hx hb dX1_digest_195 rfl (lv_at hl 0 rfl) ?_
      refine x1_g53 F C dX1_digest_196 ?_
      refine lv_bipush (v := 24) hx hb dX1_digest_199 (by decide) ?_
      refine lv_iload_n hx hb dX1_digest_201 rfl (lv_at hl 2 rfl) ?_
      refine lv_imul hx hb dX1_digest_202 ?_
      refine lv_iload hx hb dX1_digest_203 (lv_at hl 3 rfl) ?_
      refine lv_iadd hx hb dX1_digest_205 ?_
      obtain ⟨h_12, hw⟩ := hw
      refine x1_ld53 F C h_12 dX1_digest_206 ?_
      refine lv_i2l (v := (sA st 53 ((24 * x3) + x4).toNatClampNeg).toInt64) hx hb dX1_digest_207 rfl ?_
      refine lv_ladd hx hb dX1_digest_208 ?_
      refine lv_topl (fun x1_13 ex1_13 => ?_)
      have hw := hw x1_13 ex1_13
      refine lv_lstore_n (lv' := [(1, .long x1_13), (0, .ref o), (3, .int x3), (4, .int x4)]) hx hb dX1_digest_209 rfl hl (by decide) rfl (fun ls hl => ?_)
      obtain ⟨x4_14, ex4_14⟩ : ∃ y : Int32, y = x4 + 1 := ⟨_, rfl⟩
      have hw := hw x4_14 ex4_14
      refine lv_iinc (v := x4_14) (lv' := [(4, .int x4_14), (1, .long x1_13), (0, .ref o), (3, .int x3)]) hx hb dX1_digest_210 hl (k := 3) rfl (by rw [ex4_14]; rfl) (by decide) rfl (fun ls hl => ?_)
      refine lv_goto (tgt := 179) hx hb dX1_digest_213 (by decide) ?_
      exact hk179 x1_13 x3 x4_14 st _ _ _ hw C (lv_sub hl [2, 1, 3, 0] rfl)
set_option maxHeartbeats 4000000 in
theorem kX1_digest_173  {post : Int64 → CS → Prop} {k144 : Int64 → Int32 → CS → Prop} (F : Fx p s m args meth c cX1_digest 5 RX1 (some .long) D d E A) (hk144 : ∀ (x1 : Int64) (x3 : Int32) (st : CS) (H : Heap) (locs : List Loc) (ls : Array Slot), k144 x1 x3 st → Cx D (wM o ad d) A s st H locs → lv_has ls 5 [(0, .ref o), (1, .long x1), (3, .int x3)] → W p l e (headSpec (ws_ yX1_digest cX1_digest 5 (some .long)) rmX1_digest).room s m args below meth c H locs 0 0 (QL below D d E (wM o ad d) A args s 0 0 post) (F0 m 144 ls [])) : ∀ (x3 : Int32) (y0 : Int32) (y1 : Int64) (st : CS) (H : Heap) (locs : List Loc) (ls : Array Slot), wX1_digest_173  post k144 x3 y0 y1 st → Cx D (wM o ad d) A s st H locs → lv_has ls 5 [(0, .ref o), (3, .int x3)] → W p l e (headSpec (ws_ yX1_digest cX1_digest 5 (some .long)) rmX1_digest).room s m args below meth c H locs 0 0 (QL below D d E (wM o ad d) A args s 0 0 post) (F0 m 173 ls [.int y0, .long y1]) := by
  obtain ⟨hx, hb, hr, hml, hown, hts, hlk, hA, hK, hE⟩ := id F
  intro x3 y0 y1 st H locs ls hw C hl
  unfold wX1_digest_173 at hw
  refine lv_i2l (v := y0.toInt64) hx hb dX1_digest_173 rfl ?_
  refine lv_ladd hx hb dX1_digest_174 ?_
  refine lv_topl (fun x1_8 ex1_8 => ?_)
  have hw := hw x1_8 ex1_8
  refine lv_lstore_n (lv' := [(1, .long x1_8), (0, .ref o), (3, .int x3)]) hx hb dX1_digest_175 rfl hl (by decide) rfl (fun ls hl => ?_)
  refine lv_iconst (v := 0) hx hb dX1_digest_176 (by decide) ?_
  refine lv_istore (lv' := [(4, .int 0), (1, .long x1_8), (0, .ref o), (3, .int x3)]) hx hb dX1_digest_177 hl (by decide) rfl (fun ls hl => ?_)
  obtain ⟨fu, hw⟩ := hw
  exact kX1_digest_179  F hk144 fu x1_8 x3 0 st _ _ _ hw C (lv_sub hl [2, 1, 3, 0] rfl)
set_option maxHeartbeats 4000000 in
theorem kX1_digest_144  {post : Int64 → CS → Prop}  (F : Fx p s m args meth c cX1_digest 5 RX1 (some .long) D d E A) : ∀ (fu : Nat) (x1 : Int64) (x3 : Int32) (st : CS) (H : Heap) (locs : List Loc) (ls : Array Slot), wX1_digest_144  post  fu x1 x3 st → Cx D (wM o ad d) A s st H locs → lv_has ls 5 [(0, .ref o), (1, .long x1), (3, .int x3)] → W p l e (headSpec (ws_ yX1_digest cX1_digest 5 (some .long)) rmX1_digest).room s m args below meth c H locs 0 0 (QL below D d E (wM o ad d) A args s 0 0 post) (F0 m 144 ls []) := by
  obtain ⟨hx, hb, hr, hml, hown, hts, hlk, hA, hK, hE⟩ := id F
  intro fu
  induction fu with
  | zero =>
    intro x1 x3 st H locs ls hw
    exact hw.elim
  | succ n ih =>
    have hk144 := ih
    intro x1 x3 st H locs ls hw C hl
    unfold wX1_digest_144 at hw
    refine lv_iload_n hx hb dX1_digest_144 rfl (lv_at hl 2 rfl) ?_
    refine lv_iconst (v := 4) hx hb dX1_digest_145 (by decide) ?_
    refine lv_icmp_ge (tgt := 222) hx hb dX1_digest_146 (by decide) (fun c_4 => ?_) (fun c_4 => ?_)
    · have hw := hw.1 c_4
      refine lv_lload_n hx hb dX1_digest_222 rfl (lv_at hl 1 rfl) ?_
      exact x_lret F C hw dX1_digest_223
    · have hw := hw.2 c_4
      refine lv_ldc2 hx hb hown (hts _ q1321) dX1_digest_149 ?_
      refine lv_lload_n hx hb dX1_digest_152 rfl (lv_at hl 1 rfl) ?_
      refine lv_lmul hx hb dX1_digest_153 ?_
      refine lv_aload_n hx hb dX1_digest_154 rfl (lv_at hl 0 rfl) ?_
      refine x1_g52 F C dX1_digest_155 ?_
      refine lv_iload_n hx hb dX1_digest_158 rfl (lv_at hl 2 rfl) ?_
      obtain ⟨h_5, hw⟩ := hw
      refine x1_ld52 F C h_5 dX1_digest_159 ?_
      refine lv_if_ge (tgt := 167) hx hb dX1_digest_160 (by decide) (fun c_6 => ?_) (fun c_6 => ?_)
      · have hw := hw.1 c_6
        refine lv_aload_n hx hb dX1_digest_167 rfl (lv_at hl 0 rfl) ?_
        refine x1_g52 F C dX1_digest_168 ?_
        refine lv_iload_n hx hb dX1_digest_171 rfl (lv_at hl 2 rfl) ?_
        obtain ⟨h_7, hw⟩ := hw
        refine x1_ld52 F C h_7 dX1_digest_172 ?_
        exact kX1_digest_173  F hk144 x3 (sA st 52 x3.toNatClampNeg) (31 * x1) st _ _ _ hw C (lv_sub hl [0, 2] rfl)
      · have hw := hw.2 c_6
        refine lv_iconst (v := (-1)) hx hb dX1_digest_163 (by decide) ?_
        refine lv_goto (tgt := 173) hx hb dX1_digest_164 (by decide) ?_
        exact kX1_digest_173  F hk144 x3 (-1) (31 * x1) st _ _ _ hw C (lv_sub hl [0, 2] rfl)
set_option maxHeartbeats 4000000 in
theorem kX1_digest_109  {post : Int64 → CS → Prop} {k98 : Int64 → Int32 → CS → Prop} (F : Fx p s m args meth c cX1_digest 5 RX1 (some .long) D d E A) (hk98 : ∀ (x1 : Int64) (x3 : Int32) (st : CS) (H : Heap) (locs : List Loc) (ls : Array Slot), k98 x1 x3 st → Cx D (wM o ad d) A s st H locs → lv_has ls 5 [(0, .ref o), (1, .long x1), (3, .int x3)] → W p l e (headSpec (ws_ yX1_digest cX1_digest 5 (some .long)) rmX1_digest).room s m args below meth c H locs 0 0 (QL below D d E (wM o ad d) A args s 0 0 post) (F0 m 98 ls [])) : ∀ (fu : Nat) (x1 : Int64) (x3 : Int32) (x4 : Int32) (st : CS) (H : Heap) (locs : List Loc) (ls : Array Slot), wX1_digest_109  post k98 fu x1 x3 x4 st → Cx D (wM o ad d) A s st H locs → lv_has ls 5 [(0, .ref o), (1, .long x1), (3, .int x3), (4, .int x4)] → W p l e (headSpec (ws_ yX1_digest cX1_digest 5 (some .long)) rmX1_digest).room s m args below meth c H locs 0 0 (QL below D d E (wM o ad d) A args s 0 0 post) (F0 m 109 ls []) := by
  obtain ⟨hx, hb, hr, hml, hown, hts, hlk, hA, hK, hE⟩ := id F
  intro fu
  induction fu with
  | zero =>
    intro x1 x3 x4 st H locs ls hw
    exact hw.elim
  | succ n ih =>
    have hk109 := ih
    intro x1 x3 x4 st H locs ls hw C hl
    unfold wX1_digest_109 at hw
    refine lv_iload hx hb dX1_digest_109 (lv_at hl 3 rfl) ?_
    refine lv_iconst (v := 3) hx hb dX1_digest_111 (by decide) ?_
    refine lv_icmp_gt (tgt := 136) hx hb dX1_digest_112 (by decide) (fun c_15 => ?_) (fun c_15 => ?_)
    · have hw := hw.1 c_15
      obtain ⟨x3_16, ex3_16⟩ : ∃ y : Int32, y = x3 + 1 := ⟨_, rfl⟩
      have hw := hw x3_16 ex3_16
      refine lv_iinc (v := x3_16) (lv' := [(3, .int x3_16), (0, .ref o), (1, .long x1), (4, .int x4)]) hx hb dX1_digest_136 hl (k := 2) rfl (by rw [ex3_16]; rfl) (by decide) rfl (fun ls hl => ?_)
      refine lv_goto (tgt := 98) hx hb dX1_digest_139 (by decide) ?_
      exact hk98 x1 x3_16 st _ _ _ hw C (lv_sub hl [1, 2, 0] rfl)
    · have hw := hw.2 c_15
      refine lv_ldc2 hx hb hown (hts _ q1321) dX1_digest_115 ?_
      refine lv_lload_n hx hb dX1_digest_118 rfl (lv_at hl 1 rfl) ?_
      refine lv_lmul hx hb dX1_digest_119 ?_
      refine lv_aload_n hx hb dX1_digest_120 rfl (lv_at hl 0 rfl) ?_
      refine lv_iload_n hx hb dX1_digest_121 rfl (lv_at hl 2 rfl) ?_
      refine lv_iload hx hb dX1_digest_122 (lv_at hl 3 rfl) ?_
      refine x_callI (rest := [.long (31 * x1)]) (ci := 5) (q := (RX1, TX1, 55)) F C (ctX1_tellsLine hE hw) (cwV 2 hts (lw_V q1074 q1076 qs41 q71 q1077) rfl rfl rfl (by decide +kernel) ⟨Nat.le_of_ble_eq_true rfl, Nat.le_of_ble_eq_true rfl⟩) rfl rfl rfl hl.1 rfl (Nat.le_of_ble_eq_true rfl) dX1_digest_124 ⟨Nat.zero_le _, Nat.zero_le _⟩ (fun r_18 s_17 H locs hw C => ?_)
      refine lv_i2l (v := r_18.toInt64) hx hb dX1_digest_127 rfl ?_
      refine lv_ladd hx hb dX1_digest_128 ?_
      refine lv_topl (fun x1_19 ex1_19 => ?_)
      have hw := hw x1_19 ex1_19
      refine lv_lstore_n (lv' := [(1, .long x1_19), (0, .ref o), (3, .int x3), (4, .int x4)]) hx hb dX1_digest_129 rfl hl (by decide) rfl (fun ls hl => ?_)
      obtain ⟨x4_20, ex4_20⟩ : ∃ y : Int32, y = x4 + 1 := ⟨_, rfl⟩
      have hw := hw x4_20 ex4_20
      refine lv_iinc (v := x4_20) (lv' := [(4, .int x4_20), (1, .long x1_19), (0, .ref o), (3, .int x3)]) hx hb dX1_digest_130 hl (k := 3) rfl (by rw [ex4_20]; rfl) (by decide) rfl (fun ls hl => ?_)
      refine lv_goto (tgt := 109) hx hb dX1_digest_133 (by decide) ?_
      exact hk109 x1_19 x3 x4_20 s_17 _ _ _ hw C (lv_sub hl [2, 1, 3, 0] rfl)
set_option maxHeartbeats 4000000 in
theorem kX1_digest_98  {post : Int64 → CS → Prop}  (F : Fx p s m args meth c cX1_digest 5 RX1 (some .long) D d E A) : ∀ (fu : Nat) (x1 : Int64) (x3 : Int32) (st : CS) (H : Heap) (locs : List Loc) (ls : Array Slot), wX1_digest_98  post  fu x1 x3 st → Cx D (wM o ad d) A s st H locs → lv_has ls 5 [(0, .ref o), (1, .long x1), (3, .int x3)] → W p l e (headSpec (ws_ yX1_digest cX1_digest 5 (some .long)) rmX1_digest).room s m args below meth c H locs 0 0 (QL below D d E (wM o ad d) A args s 0 0 post) (F0 m 98 ls []) := by
  obtain ⟨hx, hb, hr, hml, hown, hts, hlk, hA, hK, hE⟩ := id F
  intro fu
  induction fu with
  | zero =>
    intro x1 x3 st H locs ls hw
    exact hw.elim
  | succ n ih =>
    have hk98 := ih
    intro x1 x3 st H locs ls hw C hl
    unfold wX1_digest_98 at hw
    refine lv_iload_n hx hb dX1_digest_98 rfl (lv_at hl 2 rfl) ?_
    refine lv_aload_n hx hb dX1_digest_99 rfl (lv_at hl 0 rfl) ?_
    refine x1_g6 F C dX1_digest_100 ?_
    refine lv_icmp_ge (tgt := 142) hx hb dX1_digest_103 (by decide) (fun c_3 => ?_) (fun c_3 => ?_)
    · have hw := hw.1 c_3
      refine lv_iconst (v := 0) hx hb dX1_digest_142 (by decide) ?_
      refine lv_istore_n (lv' := [(3, .int 0), (0, .ref o), (1, .long x1)]) hx hb dX1_digest_143 rfl hl (by decide) rfl (fun ls hl => ?_)
      obtain ⟨fu, hw⟩ := hw
      exact kX1_digest_144  F  fu x1 0 st _ _ _ hw C (lv_sub hl [1, 2, 0] rfl)
    · have hw := hw.2 c_3
      refine lv_iconst (v := 0) hx hb dX1_digest_106 (by decide) ?_
      refine lv_istore (lv' := [(4, .int 0), (0, .ref o), (1, .long x1), (3, .int x3)]) hx hb dX1_digest_107 hl (by decide) rfl (fun ls hl => ?_)
      obtain ⟨fu, hw⟩ := hw
      exact kX1_digest_109  F hk98 fu x1 x3 0 st _ _ _ hw C (lv_sub hl [1, 2, 3, 0] rfl)
set_option maxHeartbeats 4000000 in
theorem kX1_digest_43  {post : Int64 → CS → Prop} {k32 : Int64 → Int32 → CS → Prop} (F : Fx p s m args meth c cX1_digest 5 RX1 (some .long) D d E A) (hk32 : ∀ (x1 : Int64) (x3 : Int32) (st : CS) (H : Heap) (locs : List Loc) (ls : Array Slot), k32 x1 x3 st → Cx D (wM o ad d) A s st H locs → lv_has ls 5 [(0, .ref o), (1, .long x1), (3, .int x3)] → W p l e (headSpec (ws_ yX1_digest cX1_digest 5 (some .long)) rmX1_digest).room s m args below meth c H locs 0 0 (QL below D d E (wM o ad d) A args s 0 0 post) (F0 m 32 ls [])) : ∀ (fu : Nat) (x1 : Int64) (x3 : Int32) (x4 : Int32) (st : CS) (H : Heap) (locs : List Loc) (ls : Array Slot), wX1_digest_43  post k32 fu x1 x3 x4 st → Cx D (wM o ad d) A s st H locs → lv_has ls 5 [(0, .ref o), (1, .long x1), (3, .int x3), (4, .int x4)] → W p l e (headSpec (ws_ yX1_digest cX1_digest 5 (some .long)) rmX1_digest).room s m args below meth c H locs 0 0 (QL below D d E (wM o ad d) A args s 0 0 post) (F0 m 43 ls []) := by
  obtain ⟨hx, hb, hr, hml, hown, hts, hlk, hA, hK, hE⟩ := id F
  intro fu
  induction fu with
  | zero =>
    intro x1 x3 x4 st H locs ls hw
    exact hw.elim
  | succ n ih =>
    have hk43 := ih
    intro x1 x3 x4 st H locs ls hw C hl
    unfold wX1_digest_43 at hw
    refine lv_iload hx hb dX1_digest_43 (lv_at hl 3 rfl) ?_
    refine lv_iconst (v := 4) hx hb dX1_digest_45 (by decide) ?_
    refine lv_icmp_gt (tgt := 70) hx hb dX1_digest_46 (by decide) (fun c_21 => ?_) (fun c_21 => ?_)
    · have hw := hw.1 c_21
      refine lv_ldc2 hx hb hown (hts _ q1321) dX1_digest_70 ?_
      refine lv_lload_n hx hb dX1_digest_73 rfl (lv_at hl 1 rfl) ?_
      refine lv_lmul hx hb dX1_digest_74 ?_
      refine lv_aload_n hx hb dX1_digest_75 rfl (lv_at hl 0 rfl) ?_
      refine x1_g50 F C dX1_digest_76 ?_
      refine lv_iload_n hx hb dX1_digest_79 rfl (lv_at hl 2 rfl) ?_
      obtain ⟨h_22, hw⟩ := hw
      refine x1_ld50 F C h_22 dX1_digest_80 ?_
      refine lv_aload_n hx hb dX1_digest_81 rfl (lv_at hl 0 rfl) ?_
      refine lv_iload_n hx hb dX1_digest_82 rfl (lv_at hl 2 rfl) ?_
      refine x_callI (rest := [.int (sA st 50 x3.toNatClampNeg), .long (31 * x1)]) (ci := 5) (q := (RX1, TX1, 55)) F C (ctX1_allPaid hE hw) (cwV 1 hts (lw_V q1245 q1247 qs66 q71 q1248) rfl rfl rfl (by decide +kernel) ⟨Nat.le_of_ble_eq_true rfl, Nat.le_of_ble_eq_true rfl⟩) rfl rfl rfl hl.1 rfl (Nat.le_of_ble_eq_true rfl) dX1_digest_83 ⟨Nat.zero_le _, Nat.zero_le _⟩ (fun r_24 s_23 H locs hw C => ?_)
      refine lv_isub hx hb dX1_digest_86 ?_
      refine lv_i2l (v := ((sA st 50 x3.toNatClampNeg) - r_24).toInt64) hx hb dX1_digest_87 rfl ?_
      refine lv_ladd hx hb dX1_digest_88 ?_
      refine lv_topl (fun x1_25 ex1_25 => ?_)
      have hw := hw x1_25 ex1_25
      refine lv_lstore_n (lv' := [(1, .long x1_25), (0, .ref o), (3, .int x3), (4, .int x4)]) hx hb dX1_digest_89 rfl hl (by decide) rfl (fun ls hl => ?_)
      obtain ⟨x3_26, ex3_26⟩ : ∃ y : Int32, y = x3 + 1 := ⟨_, rfl⟩
      have hw := hw x3_26 ex3_26
      refine lv_iinc (v := x3_26) (lv' := [(3, .int x3_26), (1, .long x1_25), (0, .ref o), (4, .int x4)]) hx hb dX1_digest_90 hl (k := 2) rfl (by rw [ex3_26]; rfl) (by decide) rfl (fun ls hl => ?_)
      refine lv_goto (tgt := 32) hx hb dX1_digest_93 (by decide) ?_
      exact hk32 x1_25 x3_26 s_23 _ _ _ hw C (lv_sub hl [2, 1, 0] rfl)
    · have hw := hw.2 c_21
      refine lv_ldc2 hx hb hown (hts _ q1321) dX1_digest_49 ?_
      refine lv_lload_n hx hb dX1_digest_52 rfl (lv_at hl 1 rfl) ?_
      refine lv_lmul hx hb dX1_digest_53 ?_
      refine lv_aload_n hx hb dX1_digest_54 rfl (lv_at hl 0 rfl) ?_
      refine lv_iload_n hx hb dX1_digest_55 rfl (lv_at hl 2 rfl) ?_
      refine lv_iload hx hb dX1_digest_56 (lv_at hl 3 rfl) ?_
      refine x_callI (rest := [.long (31 * x1)]) (ci := 5) (q := (RX1, TX1, 55)) F C (ctX1_tells hE hw) (cwV 2 hts (lw_V q1050 q1052 qs38 q71 q1053) rfl rfl rfl (by decide +kernel) ⟨Nat.le_of_ble_eq_true rfl, Nat.le_of_ble_eq_true rfl⟩) rfl rfl rfl hl.1 rfl (Nat.le_of_ble_eq_true rfl) dX1_digest_58 ⟨Nat.zero_le _, Nat.zero_le _⟩ (fun r_28 s_27 H locs hw C => ?_)
      refine lv_i2l (v := r_28.toInt64) hx hb dX1_digest_61 rfl ?_
      refine lv_ladd hx hb dX1_digest_62 ?_
      refine lv_topl (fun x1_29 ex1_29 => ?_)
      have hw := hw x1_29 ex1_29
      refine lv_lstore_n (lv' := [(1, .long x1_29), (0, .ref o), (3, .int x3), (4, .int x4)]) hx hb dX1_digest_63 rfl hl (by decide) rfl (fun ls hl => ?_)
      obtain ⟨x4_30, ex4_30⟩ : ∃ y : Int32, y = x4 + 1 := ⟨_, rfl⟩
      have hw := hw x4_30 ex4_30
      refine lv_iinc (v := x4_30) (lv' := [(4, .int x4_30), (1, .long x1_29), (0, .ref o), (3, .int x3)]) hx hb dX1_digest_64 hl (k := 3) rfl (by rw [ex4_30]; rfl) (by decide) rfl (fun ls hl => ?_)
      refine lv_goto (tgt := 43) hx hb dX1_digest_67 (by decide) ?_
      exact hk43 x1_29 x3 x4_30 s_27 _ _ _ hw C (lv_sub hl [2, 1, 3, 0] rfl)
set_option maxHeartbeats 4000000 in
theorem kX1_digest_32  {post : Int64 → CS → Prop}  (F : Fx p s m args meth c cX1_digest 5 RX1 (some .long) D d E A) : ∀ (fu : Nat) (x1 : Int64) (x3 : Int32) (st : CS) (H : Heap) (locs : List Loc) (ls : Array Slot), wX1_digest_32  post  fu x1 x3 st → Cx D (wM o ad d) A s st H locs → lv_has ls 5 [(0, .ref o), (1, .long x1), (3, .int x3)] → W p l e (headSpec (ws_ yX1_digest cX1_digest 5 (some .long)) rmX1_digest).room s m args below meth c H locs 0 0 (QL below D d E (wM o ad d) A args s 0 0 post) (F0 m 32 ls []) := by
  obtain ⟨hx, hb, hr, hml, hown, hts, hlk, hA, hK, hE⟩ := id F
  intro fu
  induction fu with
  | zero =>
    intro x1 x3 st H locs ls hw
    exact hw.elim
  | succ n ih =>
    have hk32 := ih
    intro x1 x3 st H locs ls hw C hl
    unfold wX1_digest_32 at hw
    refine lv_iload_n hx hb dX1_digest_32 rfl (lv_at hl 2 rfl) ?_
    refine lv_aload_n hx hb dX1_digest_33 rfl (lv_at hl 0 rfl) ?_
    refine x1_g2 F C dX1_digest_34 ?_
    refine lv_icmp_ge (tgt := 96) hx hb dX1_digest_37 (by decide) (fun c_2 => ?_) (fun c_2 => ?_)
    · have hw := hw.1 c_2
      refine lv_iconst (v := 0) hx hb dX1_digest_96 (by decide) ?_
      refine lv_istore_n (lv' := [(3, .int 0), (0, .ref o), (1, .long x1)]) hx hb dX1_digest_97 rfl hl (by decide) rfl (fun ls hl => ?_)
      obtain ⟨fu, hw⟩ := hw
      exact kX1_digest_98  F  fu x1 0 st _ _ _ hw C (lv_sub hl [1, 2, 0] rfl)
    · have hw := hw.2 c_2
      refine lv_iconst (v := 0) hx hb dX1_digest_40 (by decide) ?_
      refine lv_istore (lv' := [(4, .int 0), (0, .ref o), (1, .long x1), (3, .int x3)]) hx hb dX1_digest_41 hl (by decide) rfl (fun ls hl => ?_)
      obtain ⟨fu, hw⟩ := hw
      exact kX1_digest_43  F hk32 fu x1 x3 0 st _ _ _ hw C (lv_sub hl [1, 2, 3, 0] rfl)
set_option maxHeartbeats 4000000 in
theorem kX1_digest_6  {post : Int64 → CS → Prop}  (F : Fx p s m args meth c cX1_digest 5 RX1 (some .long) D d E A) : ∀ (fu : Nat) (x1 : Int64) (x3 : Int32) (st : CS) (H : Heap) (locs : List Loc) (ls : Array Slot), wX1_digest_6  post  fu x1 x3 st → Cx D (wM o ad d) A s st H locs → lv_has ls 5 [(0, .ref o), (1, .long x1), (3, .int x3)] → W p l e (headSpec (ws_ yX1_digest cX1_digest 5 (some .long)) rmX1_digest).room s m args below meth c H locs 0 0 (QL below D d E (wM o ad d) A args s 0 0 post) (F0 m 6 ls []) := by
  obtain ⟨hx, hb, hr, hml, hown, hts, hlk, hA, hK, hE⟩ := id F
  intro fu
  induction fu with
  | zero =>
    intro x1 x3 st H locs ls hw
    exact hw.elim
  | succ n ih =>
    have hk6 := ih
    intro x1 x3 st H locs ls hw C hl
    unfold wX1_digest_6 at hw
    refine lv_iload_n hx hb dX1_digest_6 rfl (lv_at hl 2 rfl) ?_
    refine lv_iconst (v := 3) hx hb dX1_digest_7 (by decide) ?_
    refine lv_icmp_gt (tgt := 30) hx hb dX1_digest_8 (by decide) (fun c_1 => ?_) (fun c_1 => ?_)
    · have hw := hw.1 c_1
      refine lv_iconst (v := 0) hx hb dX1_digest_30 (by decide) ?_
      refine lv_istore_n (lv' := [(3, .int 0), (0, .ref o), (1, .long x1)]) hx hb dX1_digest_31 rfl hl (by decide) rfl (fun ls hl => ?_)
      obtain ⟨fu, hw⟩ := hw
      exact kX1_digest_32  F  fu x1 0 st _ _ _ hw C (lv_sub hl [1, 2, 0] rfl)
    · have hw := hw.2 c_1
      refine lv_ldc2 hx hb hown (hts _ q1321) dX1_digest_11 ?_
      refine lv_lload_n hx hb dX1_digest_14 rfl (lv_at hl 1 rfl) ?_
      refine lv_lmul hx hb dX1_digest_15 ?_
      refine lv_aload_n hx hb dX1_digest_16 rfl (lv_at hl 0 rfl) ?_
      refine lv_iload_n hx hb dX1_digest_17 rfl (lv_at hl 2 rfl) ?_
      refine x_callI (rest := [.long (31 * x1)]) (ci := 5) (q := (RX1, TX1, 55)) F C (ctX1_tellsCount hE hw) (cwV 1 hts (lw_V q1304 q1306 qs68 q71 q1307) rfl rfl rfl (by decide +kernel) ⟨Nat.le_of_ble_eq_true rfl, Nat.le_of_ble_eq_true rfl⟩) rfl rfl rfl hl.1 rfl (Nat.le_of_ble_eq_true rfl) dX1_digest_18 ⟨Nat.zero_le _, Nat.zero_le _⟩ (fun r_32 s_31 H locs hw C => ?_)
      refine lv_i2l (v := r_32.toInt64) hx hb dX1_digest_21 rfl ?_
      refine lv_ladd hx hb dX1_digest_22 ?_
      refine lv_topl (fun x1_33 ex1_33 => ?_)
      have hw := hw x1_33 ex1_33
      refine lv_lstore_n (lv' := [(1, .long x1_33), (0, .ref o), (3, .int x3)]) hx hb dX1_digest_23 rfl hl (by decide) rfl (fun ls hl => ?_)
      obtain ⟨x3_34, ex3_34⟩ : ∃ y : Int32, y = x3 + 1 := ⟨_, rfl⟩
      have hw := hw x3_34 ex3_34
      refine lv_iinc (v := x3_34) (lv' := [(3, .int x3_34), (1, .long x1_33), (0, .ref o)]) hx hb dX1_digest_24 hl (k := 2) rfl (by rw [ex3_34]; rfl) (by decide) rfl (fun ls hl => ?_)
      refine lv_goto (tgt := 6) hx hb dX1_digest_27 (by decide) ?_
      exact hk6 x1_33 x3_34 s_31 _ _ _ hw C (lv_sub hl [2, 1, 0] rfl)
theorem ctX1_digest (hE : Em E)  {post : Int64 → CS → Prop} {s0 : CS}  (hw : wpX1_digest  post s0 ) : CtL l yX1_digest (ws_ yX1_digest cX1_digest 5 (some .long)) rmX1_digest D d E (wM o ad d) 0 0 [.ref o] s0 post := by
  refine CtL.of hE (by decide) rfl (Nat.le_of_ble_eq_true rfl) ?_
  intro p e s m below meth c A ls F C hl
  have hl : lv_has ls 5 [(0, .ref o)] := hl
  unfold wpX1_digest at hw
  obtain ⟨hx, hb, hr, hml, hown, hts, hlk, hA, hK, -⟩ := id F
  refine lv_ldc2 hx hb hown (hts _ q1320) dX1_digest_0 ?_
  refine lv_lstore_n (lv' := [(1, .long 17), (0, .ref o)]) hx hb dX1_digest_3 rfl hl (by decide) rfl (fun ls hl => ?_)
  refine lv_iconst (v := 0) hx hb dX1_digest_4 (by decide) ?_
  refine lv_istore_n (lv' := [(3, .int 0), (1, .long 17), (0, .ref o)]) hx hb dX1_digest_5 rfl hl (by decide) rfl (fun ls hl => ?_)
  obtain ⟨fu, hw⟩ := hw
  exact kX1_digest_6  F  fu 17 0 s0 _ _ _ hw C (lv_sub hl [2, 1, 0] rfl)
end
