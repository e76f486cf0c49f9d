section
variable {p : Program} {l : Launch} {e : Env} {s : State} {m : MethodId} {args : Array Value} {below : List Frame} {meth : Method} {c : Code} {D : va_G} {d : Nat → ClassId} {E : State → Prop} {A : Nat → Prop} {wf : CS → va_W} {o : Nat} {ad : Nat → Nat}
set_option maxRecDepth 100000
abbrev rmX0_mean : Room := { frames := 7, cells := 3, slots := 32, locals := 10256 }
def wX0_mean_40  (post : Int32 → CS → Prop) (k14 : Int32 → Int32 → Int32 → CS → Prop) (x1 : Int32) (x3 : Int32) (y0 : Int32) (y1 : Int32) (st : CS) : Prop := (∀ x2_13 : Int32, x2_13 = (y1 + y0) → (∀ x3_14 : Int32, x3_14 = x3 + 1 → (k14 x1 x2_13 x3_14 st)))
def wX0_mean_14  (post : Int32 → CS → Prop)  : Nat → Int32 → Int32 → Int32 → CS → Prop
  | 0 => fun _ _ _ _ => False
  | n + 1 => fun x1 x2 x3 st => ((24 ≤ x3 → (wpX0_paidOf (fun r_6 s_5 => ((x2.toInt64 = 0 → (wpX0_found (fun r_10 s_9 => (post r_10 s_9)) s_5 4)) ∧ (¬ x2.toInt64 = 0 → (post ((r_6 / x2.toInt64).toInt32) s_5)))) st x1)) ∧ (¬ 24 ≤ x3 → (vp_in ((24 * x1) + x3) 576 ∧ (((sA st 39 ((24 * x1) + x3).toNatClampNeg) ≤ 0 → (wX0_mean_40  post (wX0_mean_14  post  n) x1 x3 0 x2 st)) ∧ (¬ (sA st 39 ((24 * x1) + x3).toNatClampNeg) ≤ 0 → (wX0_mean_40  post (wX0_mean_14  post  n) x1 x3 1 x2 st))))))
def wpX0_mean  (post : Int32 → CS → Prop) (s0 : CS) (p0 : Int32) : Prop := (wpX0_isDead (fun r_2 s_1 => ((r_2 = 0 → (post (-1) s_1)) ∧ (¬ r_2 = 0 → (∃ fu : Nat, wX0_mean_14  post  fu p0 0 0 s_1)))) s0 p0)
set_option maxHeartbeats 4000000 in
theorem kX0_mean_40 (hX : ∀ U, E U → EL U) (hq : Xh A s e c  [(48, 57, 58, 344)]) {post : Int32 → CS → Prop} {k14 : Int32 → Int32 → Int32 → CS → Prop} (F : Fx p s m args meth c cX0_mean 4 RX0 (some .int) D d E A) (hk14 : ∀ (x1 : Int32) (x2 : Int32) (x3 : Int32) (st : CS) (H : Heap) (locs : List Loc) (ls : Array Slot), k14 x1 x2 x3 st → Cx D (wX o ad d) A s st H locs → lv_has ls 4 [(0, .ref o), (1, .int x1), (2, .int x2), (3, .int x3)] → W p l e (headSpec (wsW_ yX0_mean cX0_mean 4 (some .int) [(48, 57, 58, 344)]) rmX0_mean).room s m args below meth c H locs 0 0 (QI below D d E (wX o ad d) A args s 3 32 post) (F0 m 14 ls [])) : ∀ (x1 : Int32) (x3 : Int32) (y0 : Int32) (y1 : Int32) (st : CS) (H : Heap) (locs : List Loc) (ls : Array Slot), wX0_mean_40  post k14 x1 x3 y0 y1 st → Cx D (wX o ad d) A s st H locs → lv_has ls 4 [(0, .ref o), (1, .int x1), (3, .int x3)] → W p l e (headSpec (wsW_ yX0_mean cX0_mean 4 (some .int) [(48, 57, 58, 344)]) rmX0_mean).room s m args below meth c H locs 0 0 (QI below D d E (wX o ad d) A args s 3 32 post) (F0 m 40 ls [.int y0, .int y1]) := by
  obtain ⟨hx, hb, hr, hml, hown, hts, hlk, hA, hK, hE⟩ := id F
  intro x1 x3 y0 y1 st H locs ls hw C hl
  unfold wX0_mean_40 at hw
  refine lv_iadd hx hb dX0_mean_40 ?_
  refine lv_topi (fun x2_13 ex2_13 => ?_)
  have hw := hw x2_13 ex2_13
  refine lv_istore_n (lv' := [(2, .int x2_13), (0, .ref o), (1, .int x1), (3, .int x3)]) hx hb dX0_mean_41 rfl hl (by decide) rfl (fun ls hl => ?_)
  obtain ⟨x3_14, ex3_14⟩ : ∃ y : Int32, y = x3 + 1 := ⟨_, rfl⟩
  have hw := hw x3_14 ex3_14
  refine lv_iinc (v := x3_14) (lv' := [(3, .int x3_14), (2, .int x2_13), (0, .ref o), (1, .int x1)]) hx hb dX0_mean_42 hl (k := 3) rfl (by rw [ex3_14]; rfl) (by decide) rfl (fun ls hl => ?_)
  refine lv_goto (tgt := 14) hx hb dX0_mean_45 (by decide) ?_
  exact hk14 x1 x2_13 x3_14 st _ _ _ hw C (lv_sub hl [2, 3, 1, 0] rfl)
set_option maxHeartbeats 4000000 in
theorem kX0_mean_14 (hX : ∀ U, E U → EL U) (hq : Xh A s e c  [(48, 57, 58, 344)]) {post : Int32 → CS → Prop}  (F : Fx p s m args meth c cX0_mean 4 RX0 (some .int) D d E A) : ∀ (fu : Nat) (x1 : Int32) (x2 : Int32) (x3 : Int32) (st : CS) (H : Heap) (locs : List Loc) (ls : Array Slot), wX0_mean_14  post  fu x1 x2 x3 st → Cx D (wX o ad d) A s st H locs → lv_has ls 4 [(0, .ref o), (1, .int x1), (2, .int x2), (3, .int x3)] → W p l e (headSpec (wsW_ yX0_mean cX0_mean 4 (some .int) [(48, 57, 58, 344)]) rmX0_mean).room s m args below meth c H locs 0 0 (QI below D d E (wX o ad d) A args s 3 32 post) (F0 m 14 ls []) := by
  obtain ⟨hx, hb, hr, hml, hown, hts, hlk, hA, hK, hE⟩ := id F
  intro fu
  induction fu with
  | zero =>
    intro x1 x2 x3 st H locs ls hw
    exact hw.elim
  | succ n ih =>
    have hk14 := ih
    intro x1 x2 x3 st H locs ls hw C hl
    unfold wX0_mean_14 at hw
    refine lv_iload_n hx hb dX0_mean_14 rfl (lv_at hl 3 rfl) ?_
    refine lv_bipush (v := 24) hx hb dX0_mean_15 (by decide) ?_
    refine lv_icmp_ge (tgt := 48) hx hb dX0_mean_17 (by decide) (fun c_4 => ?_) (fun c_4 => ?_)
    · have hw := hw.1 c_4
      refine lv_aload_n hx hb dX0_mean_48 rfl (lv_at hl 0 rfl) ?_
      refine lv_iload_n hx hb dX0_mean_49 rfl (lv_at hl 1 rfl) ?_
      refine x_callL (rest := []) (ci := 0) (q := (RX0, TX0, 41)) F C (ctX0_paidOf hE hX hw) (cwV 1 hts (lw_V q711 q713 qs35 q70 q714) rfl rfl rfl (by decide +kernel) ⟨Nat.le_of_ble_eq_true rfl, Nat.le_of_ble_eq_true rfl⟩) rfl rfl rfl hl.1 rfl (Nat.le_of_ble_eq_true rfl) dX0_mean_50 ⟨Nat.zero_le _, Nat.zero_le _⟩ (fun r_6 s_5 H locs hw C => ?_)
      refine lv_iload_n hx hb dX0_mean_53 rfl (lv_at hl 2 rfl) ?_
      refine lv_i2l (v := x2.toInt64) hx hb dX0_mean_54 rfl ?_
      by_cases c_7 : x2.toInt64 = 0
      · have hw := hw.1 c_7
        rw [c_7]
        refine x_caughtC (pc := 55) (rest := []) (hpc := 58) (n := 32) (cls := "java/lang/ArithmeticException") (names := ["java/lang/RuntimeException", "java/lang/Exception"]) (text := "/ by zero") F C hq.2.1 hq.2.2.1 hq.2.2.2 (by decide +kernel) (by decide +kernel) (by decide) (by decide) (ax_AE hts hq.1) (by decide) (by decide +kernel) (Nat.le_of_ble_eq_true rfl) hl.1 (Nat.le_of_ble_eq_true rfl) (Nat.le_of_ble_eq_true rfl) (Nat.le_of_ble_eq_true rfl) (Nat.le_of_ble_eq_true rfl) (Nat.le_of_ble_eq_true rfl) (fun T hT X target h => X.ldivZero hx (g := F0 m 55 ls _) rfl rfl (by rw [hb]; exact dX0_mean_55) target h) (fun hpl a9 ce hv hf hk => ft_hit hpl (by show 48 ≤ 55 ∧ 55 < 57; decide) (by decide) hown (hts _ q738) (hq.1.1 _ (List.mem_of_getElem? (i := 8) rfl) _) hf hv hk) (fun H locs a_8 C => ?_)
        refine lv_astore_n (lv' := [(3, .ref a_8), (0, .ref o), (1, .int x1), (2, .int x2)]) hx hb dX0_mean_58 rfl hl (by decide) rfl (fun ls hl => ?_)
        refine lv_aload_n hx hb dX0_mean_59 rfl (lv_at hl 1 rfl) ?_
        refine lv_iconst (v := 4) hx hb dX0_mean_60 (by decide) ?_
        refine x_callI (rest := []) (ci := 0) (q := (RX0, TX0, 41)) F C (ctX0_found hE hX hw) (cwV 1 hts (lw_V q467 q469 qs7 q70 q470) rfl rfl rfl (by decide +kernel) ⟨Nat.le_of_ble_eq_true rfl, Nat.le_of_ble_eq_true rfl⟩) rfl rfl rfl hl.1 rfl (Nat.le_of_ble_eq_true rfl) dX0_mean_61 ⟨Nat.le_of_ble_eq_true rfl, Nat.le_of_ble_eq_true rfl⟩ (fun r_10 s_9 H locs hw C => ?_)
        exact x_iret F C hw dX0_mean_64
      · have hw := hw.2 c_7
        refine lv_ldiv hx hb dX0_mean_55 c_7 ?_
        refine lv_l2i (v := (r_6 / x2.toInt64).toInt32) hx hb dX0_mean_56 rfl ?_
        refine W.widen (k := 3) (n := 32) (Nat.le_of_ble_eq_true rfl) (Nat.le_of_ble_eq_true rfl) ?_
        exact x_iret F C hw dX0_mean_57
    · have hw := hw.2 c_4
      refine lv_iload_n hx hb dX0_mean_20 rfl (lv_at hl 2 rfl) ?_
      refine lv_aload_n hx hb dX0_mean_21 rfl (lv_at hl 0 rfl) ?_
      refine x0_g39 F C dX0_mean_22 ?_
      refine lv_bipush (v := 24) hx hb dX0_mean_25 (by decide) ?_
      refine lv_iload_n hx hb dX0_mean_27 rfl (lv_at hl 1 rfl) ?_
      refine lv_imul hx hb dX0_mean_28 ?_
      refine lv_iload_n hx hb dX0_mean_29 rfl (lv_at hl 3 rfl) ?_
      refine lv_iadd hx hb dX0_mean_30 ?_
      obtain ⟨h_11, hw⟩ := hw
      refine x0_ld39 F C h_11 dX0_mean_31 ?_
      refine lv_if_le (tgt := 39) hx hb dX0_mean_32 (by decide) (fun c_12 => ?_) (fun c_12 => ?_)
      · have hw := hw.1 c_12
        refine lv_iconst (v := 0) hx hb dX0_mean_39 (by decide) ?_
        exact kX0_mean_40 hX hq F hk14 x1 x3 0 x2 st _ _ _ hw C (lv_sub hl [0, 1, 3] rfl)
      · have hw := hw.2 c_12
        refine lv_iconst (v := 1) hx hb dX0_mean_35 (by decide) ?_
        refine lv_goto (tgt := 40) hx hb dX0_mean_36 (by decide) ?_
        exact kX0_mean_40 hX hq F hk14 x1 x3 1 x2 st _ _ _ hw C (lv_sub hl [0, 1, 3] rfl)
theorem ctX0_mean (hE : Em E) (hX : ∀ U, E U → EL U) (htr : ∀ e : Env, l.admits e → e.platform.stackTraces = false) {post : Int32 → CS → Prop} {s0 : CS} {p0 : Int32} (hw : wpX0_mean  post s0 p0) : CtIW l yX0_mean (wsW_ yX0_mean cX0_mean 4 (some .int) [(48, 57, 58, 344)]) rmX0_mean D d E (wX o ad d) 3 32 [.ref o, .int p0] s0 post := by
  refine CtIW.of htr hE (by decide) rfl (Nat.le_of_ble_eq_true rfl) ?_
  intro p e s m below meth c A ls F C q1 q2 q3 q4 hl
  have hq : Xh A s e c  [(48, 57, 58, 344)] := ⟨q1, q2, q3, q4⟩
  have hl : lv_has ls 4 [(0, .ref o), (1, .int p0)] := hl
  unfold wpX0_mean at hw
  obtain ⟨hx, hb, hr, hml, hown, hts, hlk, hA, hK, -⟩ := id F
  refine lv_aload_n hx hb dX0_mean_0 rfl (lv_at hl 0 rfl) ?_
  refine lv_iload_n hx hb dX0_mean_1 rfl (lv_at hl 1 rfl) ?_
  refine x_callI (rest := []) (ci := 0) (q := (RX0, TX0, 41)) F C (ctX0_isDead hE hX hw) (cwV 1 hts (lw_V q512 q514 qs9 q70 q515) rfl rfl rfl (by decide +kernel) ⟨Nat.le_of_ble_eq_true rfl, Nat.le_of_ble_eq_true rfl⟩) rfl rfl rfl hl.1 rfl (Nat.le_of_ble_eq_true rfl) dX0_mean_2 ⟨Nat.zero_le _, Nat.zero_le _⟩ (fun r_2 s_1 H locs hw C => ?_)
  refine lv_if_ne (tgt := 10) hx hb dX0_mean_5 (by decide) (fun c_3 => ?_) (fun c_3 => ?_)
  · have hw := hw.2 c_3
    refine lv_iconst (v := 0) hx hb dX0_mean_10 (by decide) ?_
    refine lv_istore_n (lv' := [(2, .int 0), (0, .ref o), (1, .int p0)]) hx hb dX0_mean_11 rfl hl (by decide) rfl (fun ls hl => ?_)
    refine lv_iconst (v := 0) hx hb dX0_mean_12 (by decide) ?_
    refine lv_istore_n (lv' := [(3, .int 0), (2, .int 0), (0, .ref o), (1, .int p0)]) hx hb dX0_mean_13 rfl hl (by decide) rfl (fun ls hl => ?_)
    obtain ⟨fu, hw⟩ := hw
    exact kX0_mean_14 hX hq F  fu p0 0 0 s_1 _ _ _ hw C (lv_sub hl [2, 3, 1, 0] rfl)
  · have hw := hw.1 c_3
    refine lv_iconst (v := (-1)) hx hb dX0_mean_8 (by decide) ?_
    refine W.widen (k := 3) (n := 32) (Nat.le_of_ble_eq_true rfl) (Nat.le_of_ble_eq_true rfl) ?_
    exact x_iret F C hw dX0_mean_9

abbrev rmX0_sheet : Room := { frames := 7, cells := 4, slots := 128, locals := 10256 }
def wpX0_sheet  (post : Int32 → CS → Prop) (s0 : CS) (p0 : Int32) (p1 : Int32) : Prop := (wpX0_isSheet (fun r_2 s_1 => ((r_2 = 0 → (post (-1) s_1)) ∧ (¬ r_2 = 0 → ((p1 ≤ 24 → ((p1 < 0 → (wpX0_found (fun r_11 s_10 => (post r_11 s_10)) s_1 5)) ∧ (¬ p1 < 0 → p1 ≤ 24 ∧ ∀ (q_7 : Nat) (s_6 : CS), q_7 ∉ sP s_1 → s_6 = uN s_1 q_7 (0, p1.toNatClampNeg, fun _ => 0) → (okC s_6 q_7 0 ∧ vp_in p0 4 ∧ ∀ s_14 : CS, s_14 = uR s_6 40 p0.toNatClampNeg (some q_7) → (post p1 s_14))))) ∧ (¬ p1 ≤ 24 → (post (-1) s_1)))))) s0 p0)
theorem ctX0_sheet (hE : Em E) (hX : ∀ U, E U → EL U) (hXS : ∀ U, E U → ES d U) (htr : ∀ e : Env, l.admits e → e.platform.stackTraces = false) {post : Int32 → CS → Prop} {s0 : CS} {p0 p1 : Int32} (hw : wpX0_sheet  post s0 p0 p1) : CtIW l yX0_sheet (wsW_ yX0_sheet cX0_sheet 4 (some .int) [(15, 25, 26, 349)]) rmX0_sheet D d E (wX o ad d) 4 128 [.ref o, .int p0, .int p1] s0 post := by
  refine CtIW.of htr hE (by decide) rfl (Nat.le_of_ble_eq_true rfl) ?_
  intro p e s m below meth c A ls F C q1 q2 q3 q4 hl
  have hq : Xh A s e c  [(15, 25, 26, 349)] := ⟨q1, q2, q3, q4⟩
  have hl : lv_has ls 4 [(0, .ref o), (1, .int p0), (2, .int p1)] := hl
  unfold wpX0_sheet at hw
  obtain ⟨hx, hb, hr, hml, hown, hts, hlk, hA, hK, -⟩ := id F
  refine lv_iload_n hx hb dX0_sheet_0 rfl (lv_at hl 1 rfl) ?_
  refine x_callSI (rest := []) F C (ctX0_isSheet hE hw) (va_cwS 1 hts (lw_S q770 q771 q70 q772) rfl rfl rfl (by decide +kernel) ⟨Nat.le_of_ble_eq_true rfl, Nat.le_of_ble_eq_true rfl⟩) rfl hl.1 rfl (Nat.le_of_ble_eq_true rfl) dX0_sheet_1 ⟨Nat.zero_le _, Nat.zero_le _⟩ (fun r_2 s_1 H locs hw C => ?_)
  refine lv_if_eq (tgt := 13) hx hb dX0_sheet_4 (by decide) (fun c_3 => ?_) (fun c_3 => ?_)
  · have hw := hw.1 c_3
    refine lv_iconst (v := (-1)) hx hb dX0_sheet_13 (by decide) ?_
    refine W.widen (k := 4) (n := 128) (Nat.le_of_ble_eq_true rfl) (Nat.le_of_ble_eq_true rfl) ?_
    exact x_iret F C hw dX0_sheet_14
  · have hw := hw.2 c_3
    refine lv_iload_n hx hb dX0_sheet_7 rfl (lv_at hl 2 rfl) ?_
    refine lv_bipush (v := 24) hx hb dX0_sheet_8 (by decide) ?_
    refine lv_icmp_le (tgt := 15) hx hb dX0_sheet_10 (by decide) (fun c_4 => ?_) (fun c_4 => ?_)
    · have hw := hw.1 c_4
      refine lv_aload_n hx hb dX0_sheet_15 rfl (lv_at hl 0 rfl) ?_
      refine x0_g40 F C dX0_sheet_16 ?_
      refine lv_iload_n hx hb dX0_sheet_19 rfl (lv_at hl 1 rfl) ?_
      refine lv_iload_n hx hb dX0_sheet_20 rfl (lv_at hl 2 rfl) ?_
      by_cases c_5 : p1 < 0
      · have hw := hw.1 c_5
        refine x_caughtC (pc := 21) (rest := [.int p0, .ref (ad 40)]) (hpc := 26) (n := 64) (cls := "java/lang/NegativeArraySizeException") (names := ["java/lang/RuntimeException", "java/lang/Exception"]) (text := toString p1) F C hq.2.1 hq.2.2.1 hq.2.2.2 (by decide +kernel) (by decide +kernel) (by decide) (by decide) (ax_NASE hts hq.1) (negative_text_modelled c_5) (by have := negative_text_bytes p1; omega) (Nat.le_of_ble_eq_true rfl) hl.1 (Nat.le_of_ble_eq_true rfl) (Nat.le_of_ble_eq_true rfl) (Nat.le_of_ble_eq_true rfl) (Nat.le_of_ble_eq_true rfl) (Nat.le_of_ble_eq_true rfl) (fun T hT X target h => X.newarrayNegative hx (g := F0 m 21 ls _) rfl c_5 rfl (by rw [hb]; exact dX0_sheet_21) target h) (fun hpl a9 ce hv hf hk => ft_hit hpl (by show 15 ≤ 21 ∧ 21 < 25; decide) (by decide) hown (hts _ q756) (hq.1.1 _ (List.mem_of_getElem? (i := 9) rfl) _) hf hv hk) (fun H locs a_9 C => ?_)
        refine lv_astore_n (lv' := [(3, .ref a_9), (0, .ref o), (1, .int p0), (2, .int p1)]) hx hb dX0_sheet_26 rfl hl (by decide) rfl (fun ls hl => ?_)
        refine lv_aload_n hx hb dX0_sheet_27 rfl (lv_at hl 1 rfl) ?_
        refine lv_iconst (v := 5) hx hb dX0_sheet_28 (by decide) ?_
        refine x_callI (rest := []) (ci := 0) (q := (RX0, TX0, 41)) F C (ctX0_found hE hX hw) (cwV 1 hts (lw_V q467 q469 qs7 q70 q470) rfl rfl rfl (by decide +kernel) ⟨Nat.le_of_ble_eq_true rfl, Nat.le_of_ble_eq_true rfl⟩) rfl rfl rfl hl.1 rfl (Nat.le_of_ble_eq_true rfl) dX0_sheet_29 ⟨Nat.le_of_ble_eq_true rfl, Nat.le_of_ble_eq_true rfl⟩ (fun r_11 s_10 H locs hw C => ?_)
        refine W.widen (k := 4) (n := 128) (Nat.le_of_ble_eq_true rfl) (Nat.le_of_ble_eq_true rfl) ?_
        exact x_iret F C hw dX0_sheet_32
      · obtain ⟨h_8, hw⟩ := hw.2 c_5
        refine x0_newP F C c_5 h_8 (Nat.le_of_ble_eq_true rfl) (Nat.le_of_ble_eq_true rfl) dX0_sheet_21 (fun q_7 H s_6 es_6 hq_7 C => ?_)
        have hw := hw q_7 s_6 hq_7 es_6
        refine W.widen (k := 4) (n := 128) (Nat.le_of_ble_eq_true rfl) (Nat.le_of_ble_eq_true rfl) ?_
        obtain ⟨h_12, h_13, hw⟩ := hw
        refine x0_stS hXS F C h_12 h_13 dX0_sheet_23 (fun H locs s_14 es_14 C => ?_)
        have hw := hw s_14 es_14
        refine lv_iload_n hx hb dX0_sheet_24 rfl (lv_at hl 2 rfl) ?_
        exact x_iret F C hw dX0_sheet_25
    · have hw := hw.2 c_4
      refine lv_iconst (v := (-1)) hx hb dX0_sheet_13 (by decide) ?_
      refine W.widen (k := 4) (n := 128) (Nat.le_of_ble_eq_true rfl) (Nat.le_of_ble_eq_true rfl) ?_
      exact x_iret F C hw dX0_sheet_14

abbrev rmX0_at : Room := { frames := 8, cells := 3, slots := 256, locals := 10256 }
def wpX0_at  (post : Int32 → CS → Prop) (s0 : CS) (p0 : Int32) (p1 : Int32) : Prop := (wpX0_isSheet (fun r_2 s_1 => ((r_2 = 0 → (post (-1) s_1)) ∧ (¬ r_2 = 0 → (vp_in p0 4 ∧ (((sR s_1 40 p0.toNatClampNeg) = none → (wpX0_found (fun r_10 s_9 => (post r_10 s_9)) s_1 1)) ∧ (∀ a_5 : Nat, (sR s_1 40 p0.toNatClampNeg) = some a_5 → okC s_1 a_5 0 ∧ (vp_in p1 (sE s_1 a_5).2.1 → (post ((sE s_1 a_5).2.2 p1.toNatClampNeg) s_1)) ∧ (¬ vp_in p1 (sE s_1 a_5).2.1 → (sE s_1 a_5).2.1 < 2 ^ 31 ∧ (wpX0_found (fun r_13 s_12 => (post r_13 s_12)) s_1 2)))))))) s0 p0)
theorem ctX0_at (hE : Em E) (hX : ∀ U, E U → EL U) (htr : ∀ e : Env, l.admits e → e.platform.stackTraces = false) {post : Int32 → CS → Prop} {s0 : CS} {p0 p1 : Int32} (hw : wpX0_at  post s0 p0 p1) : CtIW l yX0_at (wsW_ yX0_at cX0_at 4 (some .int) [(9, 17, 18, 360), (9, 17, 25, 362)]) rmX0_at D d E (wX o ad d) 3 256 [.ref o, .int p0, .int p1] s0 post := by
  refine CtIW.of htr hE (by decide) rfl (Nat.le_of_ble_eq_true rfl) ?_
  intro p e s m below meth c A ls F C q1 q2 q3 q4 hl
  have hq : Xh A s e c  [(9, 17, 18, 360), (9, 17, 25, 362)] := ⟨q1, q2, q3, q4⟩
  have hl : lv_has ls 4 [(0, .ref o), (1, .int p0), (2, .int p1)] := hl
  unfold wpX0_at at hw
  obtain ⟨hx, hb, hr, hml, hown, hts, hlk, hA, hK, -⟩ := id F
  refine lv_iload_n hx hb dX0_at_0 rfl (lv_at hl 1 rfl) ?_
  refine x_callSI (rest := []) F C (ctX0_isSheet hE hw) (va_cwS 1 hts (lw_S q770 q771 q70 q772) rfl rfl rfl (by decide +kernel) ⟨Nat.le_of_ble_eq_true rfl, Nat.le_of_ble_eq_true rfl⟩) rfl hl.1 rfl (Nat.le_of_ble_eq_true rfl) dX0_at_1 ⟨Nat.zero_le _, Nat.zero_le _⟩ (fun r_2 s_1 H locs hw C => ?_)
  refine lv_if_ne (tgt := 9) hx hb dX0_at_4 (by decide) (fun c_3 => ?_) (fun c_3 => ?_)
  · have hw := hw.2 c_3
    refine lv_aload_n hx hb dX0_at_9 rfl (lv_at hl 0 rfl) ?_
    refine x0_g40 F C dX0_at_10 ?_
    refine lv_iload_n hx hb dX0_at_13 rfl (lv_at hl 1 rfl) ?_
    obtain ⟨h_4, hw⟩ := hw
    refine x0_ldS F C h_4 dX0_at_14 ?_
    refine lv_iload_n hx hb dX0_at_15 rfl (lv_at hl 2 rfl) ?_
    cases ha_5 : (sR s_1 40 p0.toNatClampNeg) with
    | none =>
      have hw := hw.1 ha_5
      refine x_caughtN (pc := 16) (rest := []) (hpc := 18) F C hq.2.1 hq.2.2.1 hq.2.2.2 (ax_NPE hts hq.1) hl.1 (Nat.le_of_ble_eq_true rfl) (Nat.le_of_ble_eq_true rfl) (Nat.le_of_ble_eq_true rfl) (Nat.le_of_ble_eq_true rfl) (fun T hT X target h => X.ialoadNull hx (g := F0 m 16 ls _) rfl rfl (by rw [hb]; exact dX0_at_16) target h) (fun hpl a9 ce hv hf hk => ft_hit hpl (by show 9 ≤ 16 ∧ 16 < 17; decide) (by decide) hown (hts _ q787) (hq.1.1 _ (List.mem_of_getElem? (i := 16) rfl) _) hf hv hk) (fun H locs a_8 C => ?_)
      refine lv_astore_n (lv' := [(3, .ref a_8), (0, .ref o), (1, .int p0), (2, .int p1)]) hx hb dX0_at_18 rfl hl (by decide) rfl (fun ls hl => ?_)
      refine lv_aload_n hx hb dX0_at_19 rfl (lv_at hl 1 rfl) ?_
      refine lv_iconst (v := 1) hx hb dX0_at_20 (by decide) ?_
      refine x_callI (rest := []) (ci := 0) (q := (RX0, TX0, 41)) F C (ctX0_found hE hX hw) (cwV 1 hts (lw_V q467 q469 qs7 q70 q470) rfl rfl rfl (by decide +kernel) ⟨Nat.le_of_ble_eq_true rfl, Nat.le_of_ble_eq_true rfl⟩) rfl rfl rfl hl.1 rfl (Nat.le_of_ble_eq_true rfl) dX0_at_21 ⟨Nat.le_of_ble_eq_true rfl, Nat.le_of_ble_eq_true rfl⟩ (fun r_10 s_9 H locs hw C => ?_)
      refine W.widen (k := 3) (n := 256) (Nat.le_of_ble_eq_true rfl) (Nat.le_of_ble_eq_true rfl) ?_
      exact x_iret F C hw dX0_at_24
    | some a_5 =>
      obtain ⟨h_6, hw⟩ := hw.2 a_5 ha_5
      by_cases c_7 : vp_in p1 (sE s_1 a_5).2.1
      · have hw := hw.1 c_7
        refine x0_ialdS F C h_6 c_7 dX0_at_16 ?_
        refine W.widen (k := 3) (n := 256) (Nat.le_of_ble_eq_true rfl) (Nat.le_of_ble_eq_true rfl) ?_
        exact x_iret F C hw dX0_at_17
      · obtain ⟨hlen, hw⟩ := hw.2 c_7
        refine x_caughtC (pc := 16) (rest := []) (hpc := 25) (n := 224) (cls := "java/lang/ArrayIndexOutOfBoundsException") (names := ["java/lang/IndexOutOfBoundsException", "java/lang/RuntimeException", "java/lang/Exception"]) (text := (ixText p1 (sE s_1 a_5).2.1)) F C hq.2.1 hq.2.2.1 hq.2.2.2 (by decide +kernel) (by decide +kernel) (by decide) (by decide) (ax_AIOOBE hts hq.1) (ix_modelled p1 _) (by have := ix_bytes p1 hlen; omega) (Nat.le_of_ble_eq_true rfl) hl.1 (Nat.le_of_ble_eq_true rfl) (Nat.le_of_ble_eq_true rfl) (Nat.le_of_ble_eq_true rfl) (Nat.le_of_ble_eq_true rfl) (Nat.le_of_ble_eq_true rfl) (x0_outS F C h_6 c_7 dX0_at_16) (fun hpl a9 ce hv hf hk => ft_pass hpl (by show 9 ≤ 16 ∧ 16 < 17; decide) (by decide) hown (hts _ q787) (x_ncast hf (hq.1.1 _ (List.mem_of_getElem? (i := 19) rfl) #[])) hv hk (ft_hit hpl (by show 9 ≤ 16 ∧ 16 < 17; decide) (by decide) hown (hts _ q812) (hq.1.1 _ (List.mem_of_getElem? (i := 17) rfl) _) hf hv hk)) (fun H locs a_11 C => ?_)
        refine lv_astore_n (lv' := [(3, .ref a_11), (0, .ref o), (1, .int p0), (2, .int p1)]) hx hb dX0_at_25 rfl hl (by decide) rfl (fun ls hl => ?_)
        refine lv_aload_n hx hb dX0_at_26 rfl (lv_at hl 1 rfl) ?_
        refine lv_iconst (v := 2) hx hb dX0_at_27 (by decide) ?_
        refine x_callI (rest := []) (ci := 0) (q := (RX0, TX0, 41)) F C (ctX0_found hE hX hw) (cwV 1 hts (lw_V q467 q469 qs7 q70 q470) rfl rfl rfl (by decide +kernel) ⟨Nat.le_of_ble_eq_true rfl, Nat.le_of_ble_eq_true rfl⟩) rfl rfl rfl hl.1 rfl (Nat.le_of_ble_eq_true rfl) dX0_at_28 ⟨Nat.le_of_ble_eq_true rfl, Nat.le_of_ble_eq_true rfl⟩ (fun r_13 s_12 H locs hw C => ?_)
        refine W.widen (k := 3) (n := 256) (Nat.le_of_ble_eq_true rfl) (Nat.le_of_ble_eq_true rfl) ?_
        exact x_iret F C hw dX0_at_31
  · have hw := hw.1 c_3
    refine lv_iconst (v := (-1)) hx hb dX0_at_7 (by decide) ?_
    refine W.widen (k := 3) (n := 256) (Nat.le_of_ble_eq_true rfl) (Nat.le_of_ble_eq_true rfl) ?_
    exact x_iret F C hw dX0_at_8
end
