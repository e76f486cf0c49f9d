section
variable {p : Program} {l : Launch} {e : Env} {s : State} {m : MethodId} {args : Array Value} {below : List Frame} {meth : Method} {c : Code} {D : va_G} {d : Nat → ClassId} {E : State → Prop} {A : Nat → Prop} {wf : CS → va_W} {o : Nat} {ad : Nat → Nat}
set_option maxRecDepth 100000
abbrev rmX0_mark : Room := { frames := 7, cells := 3, slots := 1024, locals := 10256 }
def wX0_mark_107  (post : Int32 → CS → Prop)  (y0 : Nat) (st : CS) : Prop := (wpX0_found (fun r_13 s_12 => (post r_13 s_12)) st 3)
def wpX0_mark  (post : Int32 → CS → Prop) (s0 : CS) (p0 : Int32) (p1 : Int32) : Prop := (wpX0_isLine (fun r_2 s_1 => ((r_2 = 0 → (post (-1) s_1)) ∧ (¬ r_2 = 0 → (wpX0_in (fun r_5 s_4 => ((r_5 = 0 → (post (-1) s_4)) ∧ (¬ r_5 = 0 → (vp_in p0 40 ∧ ∃ a_8 : Nat, sR s_4 10 p0.toNatClampNeg = some a_8 ∧ (∀ v_9 : Int32, v_9 = p1 → ((v_9 = 1 → (okE s_4 a_8 ∧ ((sE s_4 a_8).1 = 1 → (∀ a_11 : Nat, (wX0_mark_107  post  a_11 s_4))) ∧ ((sE s_4 a_8).1 = 2 → (wpX3_mark_c2 (fun r_14 s_15 => (post r_14 s_15)) s_4 a_8)) ∧ ((sE s_4 a_8).1 = 3 → (∀ a_16 : Nat, (wX0_mark_107  post  a_16 s_4))) ∧ ((sE s_4 a_8).1 = 4 → (wpX5_asClaimed_c4 (fun r_17 s_18 => (post r_17 s_18)) s_4 a_8)))) ∧ (¬ v_9 = 1 → ((v_9 = 2 → (okE s_4 a_8 ∧ ((sE s_4 a_8).1 = 1 → (∀ a_20 : Nat, (wX0_mark_107  post  a_20 s_4))) ∧ ((sE s_4 a_8).1 = 2 → (∀ a_21 : Nat, (wX0_mark_107  post  a_21 s_4))) ∧ ((sE s_4 a_8).1 = 3 → (∀ a_22 : Nat, (wX0_mark_107  post  a_22 s_4))) ∧ ((sE s_4 a_8).1 = 4 → (wpX5_mark_c4 (fun r_23 s_24 => (post r_23 s_24)) s_4 a_8)))) ∧ (¬ v_9 = 2 → (okE s_4 a_8 ∧ ((sE s_4 a_8).1 = 1 → (∀ a_25 : Nat, (wX0_mark_107  post  a_25 s_4))) ∧ ((sE s_4 a_8).1 = 2 → (∀ a_26 : Nat, (wX0_mark_107  post  a_26 s_4))) ∧ ((sE s_4 a_8).1 = 3 → (wpX4_mark_c3 (fun r_27 s_28 => (post r_27 s_28)) s_4 a_8)) ∧ ((sE s_4 a_8).1 = 4 → (∀ a_29 : Nat, (wX0_mark_107  post  a_29 s_4))))))))))))) s_1 p1 1 3)))) s0 p0)
set_option maxHeartbeats 4000000 in
theorem kX0_mark_107 (hX : ∀ U, E U → EL U) (hq : Xh A s e c  [(26, 82, 107, 193), (83, 94, 107, 193), (95, 106, 107, 193)]) {post : Int32 → CS → Prop}  (F : Fx p s m args meth c cX0_mark 7 RX0 (some .int) D d E A) : ∀ (y0 : Nat) (st : CS) (H : Heap) (locs : List Loc) (ls : Array Slot), wX0_mark_107  post  y0 st → Cx D (wX o ad d) A s st H locs → lv_has ls 7 [(0, .ref o)] → W p l e (headSpec (wsW_ yX0_mark cX0_mark 7 (some .int) [(26, 82, 107, 193), (83, 94, 107, 193), (95, 106, 107, 193)]) rmX0_mark).room s m args below meth c H locs 3 1024 (QI below D d E (wX o ad d) A args s 3 1024 post) (F0 m 107 ls [.ref y0]) := by
  obtain ⟨hx, hb, hr, hml, hown, hts, hlk, hA, hK, hE⟩ := id F
  intro y0 st H locs ls hw C hl
  unfold wX0_mark_107 at hw
  refine lv_astore (lv' := [(4, .ref y0), (0, .ref o)]) hx hb dX0_mark_107 hl (by decide) rfl (fun ls hl => ?_)
  refine lv_aload_n hx hb dX0_mark_109 rfl (lv_at hl 1 rfl) ?_
  refine lv_iconst (v := 3) hx hb dX0_mark_110 (by decide) ?_
  refine x_callI (rest := []) (ci := 0) (q := (RX0, TX0, 41)) F C (ctX0_found hE hX hw) (cwV 1 hts (lw_V q467 q469 qs7 q70 q470) rfl rfl rfl (by decide +kernel) ⟨Nat.le_of_ble_eq_true rfl, Nat.le_of_ble_eq_true rfl⟩) rfl rfl rfl hl.1 rfl (Nat.le_of_ble_eq_true rfl) dX0_mark_111 ⟨Nat.le_of_ble_eq_true rfl, Nat.le_of_ble_eq_true rfl⟩ (fun r_13 s_12 H locs hw C => ?_)
  exact x_iret F C hw dX0_mark_114
theorem ctX0_mark (hE : Em E) (hX : ∀ U, E U → EL U) (htr : ∀ e : Env, l.admits e → e.platform.stackTraces = false) {post : Int32 → CS → Prop} {s0 : CS} {p0 p1 : Int32} (hw : wpX0_mark  post s0 p0 p1) : CtIW l yX0_mark (wsW_ yX0_mark cX0_mark 7 (some .int) [(26, 82, 107, 193), (83, 94, 107, 193), (95, 106, 107, 193)]) rmX0_mark D d E (wX o ad d) 3 1024 [.ref o, .int p0, .int p1] s0 post := by
  refine CtIW.of htr hE (by decide) rfl (Nat.le_of_ble_eq_true rfl) ?_
  intro p e s m below meth c A ls F C q1 q2 q3 q4 hl
  have hq : Xh A s e c  [(26, 82, 107, 193), (83, 94, 107, 193), (95, 106, 107, 193)] := ⟨q1, q2, q3, q4⟩
  have hl : lv_has ls 7 [(0, .ref o), (1, .int p0), (2, .int p1)] := hl
  unfold wpX0_mark at hw
  obtain ⟨hx, hb, hr, hml, hown, hts, hlk, hA, hK, -⟩ := id F
  refine lv_aload_n hx hb dX0_mark_0 rfl (lv_at hl 0 rfl) ?_
  refine lv_iload_n hx hb dX0_mark_1 rfl (lv_at hl 1 rfl) ?_
  refine x_callI (rest := []) (ci := 0) (q := (RX0, TX0, 41)) F C (ctX0_isLine hE hX hw) (cwV 1 hts (lw_V q336 q338 qs3 q70 q339) rfl rfl rfl (by decide +kernel) ⟨Nat.le_of_ble_eq_true rfl, Nat.le_of_ble_eq_true rfl⟩) rfl rfl rfl hl.1 rfl (Nat.le_of_ble_eq_true rfl) dX0_mark_2 ⟨Nat.zero_le _, Nat.zero_le _⟩ (fun r_2 s_1 H locs hw C => ?_)
  refine lv_if_eq (tgt := 17) hx hb dX0_mark_5 (by decide) (fun c_3 => ?_) (fun c_3 => ?_)
  · have hw := hw.1 c_3
    refine lv_iconst (v := (-1)) hx hb dX0_mark_17 (by decide) ?_
    refine W.widen (k := 3) (n := 1024) (Nat.le_of_ble_eq_true rfl) (Nat.le_of_ble_eq_true rfl) ?_
    exact x_iret F C hw dX0_mark_18
  · have hw := hw.2 c_3
    refine lv_iload_n hx hb dX0_mark_8 rfl (lv_at hl 2 rfl) ?_
    refine lv_iconst (v := 1) hx hb dX0_mark_9 (by decide) ?_
    refine lv_iconst (v := 3) hx hb dX0_mark_10 (by decide) ?_
    refine x_callSI (rest := []) F C (ctX0_in hE hw) (va_cwS 3 hts (lw_S q240 q241 q70 q242) rfl rfl rfl (by decide +kernel) ⟨Nat.le_of_ble_eq_true rfl, Nat.le_of_ble_eq_true rfl⟩) rfl hl.1 rfl (Nat.le_of_ble_eq_true rfl) dX0_mark_11 ⟨Nat.zero_le _, Nat.zero_le _⟩ (fun r_5 s_4 H locs hw C => ?_)
    refine lv_if_ne (tgt := 19) hx hb dX0_mark_14 (by decide) (fun c_6 => ?_) (fun c_6 => ?_)
    · have hw := hw.2 c_6
      refine lv_aload_n hx hb dX0_mark_19 rfl (lv_at hl 0 rfl) ?_
      refine x0_g10 F C dX0_mark_20 ?_
      refine lv_iload_n hx hb dX0_mark_23 rfl (lv_at hl 1 rfl) ?_
      obtain ⟨h_7, a_8, ha_8, hw⟩ := hw
      refine x0_ldL F C h_7 ha_8 dX0_mark_24 ?_
      refine lv_astore_n (lv' := [(3, .ref a_8), (0, .ref o), (1, .int p0), (2, .int p1)]) hx hb dX0_mark_25 rfl hl (by decide) rfl (fun ls hl => ?_)
      refine lv_iload_n hx hb dX0_mark_26 rfl (lv_at hl 3 rfl) ?_
      refine lv_topi (fun v_9 ev_9 => ?_)
      have hw := hw v_9 ev_9
      by_cases c_10 : v_9 = 1
      · have hw := hw.1 c_10
        refine lv_lookup (tgt := 52) (off := 25) hx hb dX0_mark_27 (by decide) (by rw [c_10]; decide) (by decide) ?_
        refine lv_aload_n hx hb dX0_mark_52 rfl (lv_at hl 0 rfl) ?_
        obtain ⟨hok, hw⟩ := hw
        rcases hok.cases with h9 | h9 | h9 | h9
        · have hw := hw.1 h9
          refine x_caughtC2 (pc := 53) (rest := [.ref a_8]) (hpc := 107) (n := 1024) (cls := "java/lang/ClassCastException") (names := ["java/lang/RuntimeException", "java/lang/Exception"]) F C hq.2.1 hq.2.2.1 hq.2.2.2 (by decide +kernel) (by decide +kernel) (by decide) (by decide) (ax_CCE hts hq.1) (Nat.le_of_ble_eq_true rfl) hl.1 (Nat.le_of_ble_eq_true rfl) (Nat.le_of_ble_eq_true rfl) (Nat.le_of_ble_eq_true rfl) (Nat.le_of_ble_eq_true rfl) (Nat.le_of_ble_eq_true rfl) (x0_castR (q := (RX2, TX2, 4)) F C hq.1.2 hok.1 (pE_1 h9) rfl (by decide) (by decide) q297 (hq.1.1 _ (List.mem_of_getElem? (i := 25) rfl) #[]) dX0_mark_53) (fun hpl a9 ce hv hf hk => ft_hit hpl (by show 26 ≤ 53 ∧ 53 < 82; decide) (by decide) hown (hts _ q365) (hq.1.1 _ (List.mem_of_getElem? (i := 5) rfl) _) hf hv hk) (fun H locs a_11 C => ?_)
          have hw := hw a_11
          exact kX0_mark_107 hX hq F  a_11 s_4 _ _ _ hw C (lv_sub hl [1] rfl)
        · have hw := hw.2.1 h9
          refine va_castS hx hb hown (hts _ q297) (xP_class F (ci := 2) (q := (RX3, TX3, 6)) rfl) (xP_recv F C (q := (RX3, TX3, 6)) hok.1 (pE_2 h9) rfl) dX0_mark_53 ?_
          refine lv_astore (lv' := [(4, .ref a_8), (3, .ref a_8), (0, .ref o), (1, .int p0), (2, .int p1)]) hx hb dX0_mark_56 hl (by decide) rfl (fun ls hl => ?_)
          refine lv_aload hx hb dX0_mark_58 (lv_at hl 0 rfl) ?_
          refine va_instNo (C := "HeirHunters$Claimed") hx hb hown (hts _ q451) (va_Nc.of (hq.1.1 _ (List.mem_of_getElem? (i := 23) rfl) #[])) (xP_recv F C (q := (RX3, TX3, 6)) hok.1 (pE_2 h9) rfl) dX0_mark_60 ?_
          refine lv_if_eq (tgt := 77) hx hb dX0_mark_63 (by decide) (fun _ => ?_) (fun c9 => absurd rfl c9)
          refine lv_aload hx hb dX0_mark_77 (lv_at hl 0 rfl) ?_
          refine x_callPV (q := (RX3, TX3, 6)) (rest := []) F C hok.1 (pE_2 h9) rfl (ctX3_mark_c2 hE hw) (cwV 0 hts (lw_V q459 q457 q1325 q73 q458) rfl rfl rfl (by decide +kernel) ⟨Nat.le_of_ble_eq_true rfl, Nat.le_of_ble_eq_true rfl⟩) rfl hl.1 rfl (Nat.le_of_ble_eq_true rfl) dX0_mark_79 ⟨Nat.zero_le _, Nat.zero_le _⟩ (fun r_14 s_15 H locs hw C => ?_)
          refine W.widen (k := 3) (n := 1024) (Nat.le_of_ble_eq_true rfl) (Nat.le_of_ble_eq_true rfl) ?_
          exact x_iret F C hw dX0_mark_82
        · have hw := hw.2.2.1 h9
          refine x_caughtC2 (pc := 53) (rest := [.ref a_8]) (hpc := 107) (n := 1024) (cls := "java/lang/ClassCastException") (names := ["java/lang/RuntimeException", "java/lang/Exception"]) F C hq.2.1 hq.2.2.1 hq.2.2.2 (by decide +kernel) (by decide +kernel) (by decide) (by decide) (ax_CCE hts hq.1) (Nat.le_of_ble_eq_true rfl) hl.1 (Nat.le_of_ble_eq_true rfl) (Nat.le_of_ble_eq_true rfl) (Nat.le_of_ble_eq_true rfl) (Nat.le_of_ble_eq_true rfl) (Nat.le_of_ble_eq_true rfl) (x0_castR (q := (RX4, TX4, 6)) F C hq.1.2 hok.1 (pE_3 h9) rfl (by decide) (by decide) q297 (hq.1.1 _ (List.mem_of_getElem? (i := 20) rfl) #[]) dX0_mark_53) (fun hpl a9 ce hv hf hk => ft_hit hpl (by show 26 ≤ 53 ∧ 53 < 82; decide) (by decide) hown (hts _ q365) (hq.1.1 _ (List.mem_of_getElem? (i := 5) rfl) _) hf hv hk) (fun H locs a_16 C => ?_)
          have hw := hw a_16
          exact kX0_mark_107 hX hq F  a_16 s_4 _ _ _ hw C (lv_sub hl [1] rfl)
        · have hw := hw.2.2.2 h9
          refine va_castY (C := "HeirHunters$Proved") hx hb hown (hts _ q297) (hq.1.1 _ (List.mem_of_getElem? (i := 28) rfl) #[]) (xP_recv F C (q := (RX5, TX5, 8)) hok.1 (pE_4 h9) rfl) dX0_mark_53 ?_
          refine lv_astore (lv' := [(4, .ref a_8), (3, .ref a_8), (0, .ref o), (1, .int p0), (2, .int p1)]) hx hb dX0_mark_56 hl (by decide) rfl (fun ls hl => ?_)
          refine lv_aload hx hb dX0_mark_58 (lv_at hl 0 rfl) ?_
          refine va_instS hx hb hown (hts _ q451) (xP_class F (ci := 4) (q := (RX5, TX5, 8)) rfl) (xP_recv F C (q := (RX5, TX5, 8)) hok.1 (pE_4 h9) rfl) dX0_mark_60 ?_
          refine lv_if_eq (tgt := 77) hx hb dX0_mark_63 (by decide) (fun c9 => absurd c9 (by decide)) (fun _ => ?_)
          refine lv_aload hx hb dX0_mark_66 (lv_at hl 0 rfl) ?_
          refine va_castS hx hb hown (hts _ q451) (xP_class F (ci := 4) (q := (RX5, TX5, 8)) rfl) (xP_recv F C (q := (RX5, TX5, 8)) hok.1 (pE_4 h9) rfl) dX0_mark_68 ?_
          refine x_callPV (q := (RX5, TX5, 8)) (rest := []) F C hok.1 (pE_4 h9) rfl (ctX5_asClaimed_c4 hE hw) (cwV 0 hts (lw_V q452 q453 q454 q80 q455) rfl rfl rfl (by decide +kernel) ⟨Nat.le_of_ble_eq_true rfl, Nat.le_of_ble_eq_true rfl⟩) rfl hl.1 rfl (Nat.le_of_ble_eq_true rfl) dX0_mark_71 ⟨Nat.zero_le _, Nat.zero_le _⟩ (fun r_17 s_18 H locs hw C => ?_)
          refine lv_goto (tgt := 82) hx hb dX0_mark_74 (by decide) ?_
          refine W.widen (k := 3) (n := 1024) (Nat.le_of_ble_eq_true rfl) (Nat.le_of_ble_eq_true rfl) ?_
          exact x_iret F C hw dX0_mark_82
      · have hw := hw.2 c_10
        by_cases c_19 : v_9 = 2
        · have hw := hw.1 c_19
          refine lv_lookup (tgt := 83) (off := 56) hx hb dX0_mark_27 (by decide) (by rw [c_19]; decide) (by decide) ?_
          refine lv_aload_n hx hb dX0_mark_83 rfl (lv_at hl 0 rfl) ?_
          obtain ⟨hok, hw⟩ := hw
          rcases hok.cases with h9 | h9 | h9 | h9
          · have hw := hw.1 h9
            refine x_caughtC2 (pc := 84) (rest := [.ref a_8]) (hpc := 107) (n := 1024) (cls := "java/lang/ClassCastException") (names := ["java/lang/RuntimeException", "java/lang/Exception"]) F C hq.2.1 hq.2.2.1 hq.2.2.2 (by decide +kernel) (by decide +kernel) (by decide) (by decide) (ax_CCE hts hq.1) (Nat.le_of_ble_eq_true rfl) hl.1 (Nat.le_of_ble_eq_true rfl) (Nat.le_of_ble_eq_true rfl) (Nat.le_of_ble_eq_true rfl) (Nat.le_of_ble_eq_true rfl) (Nat.le_of_ble_eq_true rfl) (x0_castR (q := (RX2, TX2, 4)) F C hq.1.2 hok.1 (pE_1 h9) rfl (by decide) (by decide) q451 (hq.1.1 _ (List.mem_of_getElem? (i := 26) rfl) #[]) dX0_mark_84) (fun hpl a9 ce hv hf hk => ft_skip (by show ¬ (26 ≤ 84 ∧ 84 < 82); decide) (ft_hit hpl (by show 83 ≤ 84 ∧ 84 < 94; decide) (by decide) hown (hts _ q365) (hq.1.1 _ (List.mem_of_getElem? (i := 5) rfl) _) hf hv hk)) (fun H locs a_20 C => ?_)
            have hw := hw a_20
            exact kX0_mark_107 hX hq F  a_20 s_4 _ _ _ hw C (lv_sub hl [1] rfl)
          · have hw := hw.2.1 h9
            refine x_caughtC2 (pc := 84) (rest := [.ref a_8]) (hpc := 107) (n := 1024) (cls := "java/lang/ClassCastException") (names := ["java/lang/RuntimeException", "java/lang/Exception"]) F C hq.2.1 hq.2.2.1 hq.2.2.2 (by decide +kernel) (by decide +kernel) (by decide) (by decide) (ax_CCE hts hq.1) (Nat.le_of_ble_eq_true rfl) hl.1 (Nat.le_of_ble_eq_true rfl) (Nat.le_of_ble_eq_true rfl) (Nat.le_of_ble_eq_true rfl) (Nat.le_of_ble_eq_true rfl) (Nat.le_of_ble_eq_true rfl) (x0_castR (q := (RX3, TX3, 6)) F C hq.1.2 hok.1 (pE_2 h9) rfl (by decide) (by decide) q451 (hq.1.1 _ (List.mem_of_getElem? (i := 23) rfl) #[]) dX0_mark_84) (fun hpl a9 ce hv hf hk => ft_skip (by show ¬ (26 ≤ 84 ∧ 84 < 82); decide) (ft_hit hpl (by show 83 ≤ 84 ∧ 84 < 94; decide) (by decide) hown (hts _ q365) (hq.1.1 _ (List.mem_of_getElem? (i := 5) rfl) _) hf hv hk)) (fun H locs a_21 C => ?_)
            have hw := hw a_21
            exact kX0_mark_107 hX hq F  a_21 s_4 _ _ _ hw C (lv_sub hl [1] rfl)
          · have hw := hw.2.2.1 h9
            refine x_caughtC2 (pc := 84) (rest := [.ref a_8]) (hpc := 107) (n := 1024) (cls := "java/lang/ClassCastException") (names := ["java/lang/RuntimeException", "java/lang/Exception"]) F C hq.2.1 hq.2.2.1 hq.2.2.2 (by decide +kernel) (by decide +kernel) (by decide) (by decide) (ax_CCE hts hq.1) (Nat.le_of_ble_eq_true rfl) hl.1 (Nat.le_of_ble_eq_true rfl) (Nat.le_of_ble_eq_true rfl) (Nat.le_of_ble_eq_true rfl) (Nat.le_of_ble_eq_true rfl) (Nat.le_of_ble_eq_true rfl) (x0_castR (q := (RX4, TX4, 6)) F C hq.1.2 hok.1 (pE_3 h9) rfl (by decide) (by decide) q451 (hq.1.1 _ (List.mem_of_getElem? (i := 21) rfl) #[]) dX0_mark_84) (fun hpl a9 ce hv hf hk => ft_skip (by show ¬ (26 ≤ 84 ∧ 84 < 82); decide) (ft_hit hpl (by show 83 ≤ 84 ∧ 84 < 94; decide) (by decide) hown (hts _ q365) (hq.1.1 _ (List.mem_of_getElem? (i := 5) rfl) _) hf hv hk)) (fun H locs a_22 C => ?_)
            have hw := hw a_22
            exact kX0_mark_107 hX hq F  a_22 s_4 _ _ _ hw C (lv_sub hl [1] rfl)
          · have hw := hw.2.2.2 h9
            refine va_castS hx hb hown (hts _ q451) (xP_class F (ci := 4) (q := (RX5, TX5, 8)) rfl) (xP_recv F C (q := (RX5, TX5, 8)) hok.1 (pE_4 h9) rfl) dX0_mark_84 ?_
            refine lv_astore (lv' := [(5, .ref a_8), (3, .ref a_8), (0, .ref o), (1, .int p0), (2, .int p1)]) hx hb dX0_mark_87 hl (by decide) rfl (fun ls hl => ?_)
            refine lv_aload hx hb dX0_mark_89 (lv_at hl 0 rfl) ?_
            refine x_callPV (q := (RX5, TX5, 8)) (rest := []) F C hok.1 (pE_4 h9) rfl (ctX5_mark_c4 hE hw) (cwV 0 hts (lw_V q462 q460 q1327 q80 q461) rfl rfl rfl (by decide +kernel) ⟨Nat.le_of_ble_eq_true rfl, Nat.le_of_ble_eq_true rfl⟩) rfl hl.1 rfl (Nat.le_of_ble_eq_true rfl) dX0_mark_91 ⟨Nat.zero_le _, Nat.zero_le _⟩ (fun r_23 s_24 H locs hw C => ?_)
            refine W.widen (k := 3) (n := 1024) (Nat.le_of_ble_eq_true rfl) (Nat.le_of_ble_eq_true rfl) ?_
            exact x_iret F C hw dX0_mark_94
        · have hw := hw.2 c_19
          refine lv_lookup (tgt := 95) (off := 68) hx hb dX0_mark_27 (by decide) ((lv_osw c_10 (by decide)).trans ((lv_osw c_19 (by decide)).trans rfl)) (by decide) ?_
          refine lv_aload_n hx hb dX0_mark_95 rfl (lv_at hl 0 rfl) ?_
          obtain ⟨hok, hw⟩ := hw
          rcases hok.cases with h9 | h9 | h9 | h9
          · have hw := hw.1 h9
            refine x_caughtC2 (pc := 96) (rest := [.ref a_8]) (hpc := 107) (n := 1024) (cls := "java/lang/ClassCastException") (names := ["java/lang/RuntimeException", "java/lang/Exception"]) F C hq.2.1 hq.2.2.1 hq.2.2.2 (by decide +kernel) (by decide +kernel) (by decide) (by decide) (ax_CCE hts hq.1) (Nat.le_of_ble_eq_true rfl) hl.1 (Nat.le_of_ble_eq_true rfl) (Nat.le_of_ble_eq_true rfl) (Nat.le_of_ble_eq_true rfl) (Nat.le_of_ble_eq_true rfl) (Nat.le_of_ble_eq_true rfl) (x0_castR (q := (RX2, TX2, 4)) F C hq.1.2 hok.1 (pE_1 h9) rfl (by decide) (by decide) q315 (hq.1.1 _ (List.mem_of_getElem? (i := 24) rfl) #[]) dX0_mark_96) (fun hpl a9 ce hv hf hk => ft_skip (by show ¬ (26 ≤ 96 ∧ 96 < 82); decide) (ft_skip (by show ¬ (83 ≤ 96 ∧ 96 < 94); decide) (ft_hit hpl (by show 95 ≤ 96 ∧ 96 < 106; decide) (by decide) hown (hts _ q365) (hq.1.1 _ (List.mem_of_getElem? (i := 5) rfl) _) hf hv hk))) (fun H locs a_25 C => ?_)
            have hw := hw a_25
            exact kX0_mark_107 hX hq F  a_25 s_4 _ _ _ hw C (lv_sub hl [1] rfl)
          · have hw := hw.2.1 h9
            refine x_caughtC2 (pc := 96) (rest := [.ref a_8]) (hpc := 107) (n := 1024) (cls := "java/lang/ClassCastException") (names := ["java/lang/RuntimeException", "java/lang/Exception"]) F C hq.2.1 hq.2.2.1 hq.2.2.2 (by decide +kernel) (by decide +kernel) (by decide) (by decide) (ax_CCE hts hq.1) (Nat.le_of_ble_eq_true rfl) hl.1 (Nat.le_of_ble_eq_true rfl) (Nat.le_of_ble_eq_true rfl) (Nat.le_of_ble_eq_true rfl) (Nat.le_of_ble_eq_true rfl) (Nat.le_of_ble_eq_true rfl) (x0_castR (q := (RX3, TX3, 6)) F C hq.1.2 hok.1 (pE_2 h9) rfl (by decide) (by decide) q315 (hq.1.1 _ (List.mem_of_getElem? (i := 22) rfl) #[]) dX0_mark_96) (fun hpl a9 ce hv hf hk => ft_skip (by show ¬ (26 ≤ 96 ∧ 96 < 82); decide) (ft_skip (by show ¬ (83 ≤ 96 ∧ 96 < 94); decide) (ft_hit hpl (by show 95 ≤ 96 ∧ 96 < 106; decide) (by decide) hown (hts _ q365) (hq.1.1 _ (List.mem_of_getElem? (i := 5) rfl) _) hf hv hk))) (fun H locs a_26 C => ?_)
            have hw := hw a_26
            exact kX0_mark_107 hX hq F  a_26 s_4 _ _ _ hw C (lv_sub hl [1] rfl)
          · have hw := hw.2.2.1 h9
            refine va_castS hx hb hown (hts _ q315) (xP_class F (ci := 3) (q := (RX4, TX4, 6)) rfl) (xP_recv F C (q := (RX4, TX4, 6)) hok.1 (pE_3 h9) rfl) dX0_mark_96 ?_
            refine lv_astore (lv' := [(6, .ref a_8), (3, .ref a_8), (0, .ref o), (1, .int p0), (2, .int p1)]) hx hb dX0_mark_99 hl (by decide) rfl (fun ls hl => ?_)
            refine lv_aload hx hb dX0_mark_101 (lv_at hl 0 rfl) ?_
            refine x_callPV (q := (RX4, TX4, 6)) (rest := []) F C hok.1 (pE_3 h9) rfl (ctX4_mark_c3 hE hw) (cwV 0 hts (lw_V q463 q464 q465 q74 q466) rfl rfl rfl (by decide +kernel) ⟨Nat.le_of_ble_eq_true rfl, Nat.le_of_ble_eq_true rfl⟩) rfl hl.1 rfl (Nat.le_of_ble_eq_true rfl) dX0_mark_103 ⟨Nat.zero_le _, Nat.zero_le _⟩ (fun r_27 s_28 H locs hw C => ?_)
            refine W.widen (k := 3) (n := 1024) (Nat.le_of_ble_eq_true rfl) (Nat.le_of_ble_eq_true rfl) ?_
            exact x_iret F C hw dX0_mark_106
          · have hw := hw.2.2.2 h9
            refine x_caughtC2 (pc := 96) (rest := [.ref a_8]) (hpc := 107) (n := 1024) (cls := "java/lang/ClassCastException") (names := ["java/lang/RuntimeException", "java/lang/Exception"]) F C hq.2.1 hq.2.2.1 hq.2.2.2 (by decide +kernel) (by decide +kernel) (by decide) (by decide) (ax_CCE hts hq.1) (Nat.le_of_ble_eq_true rfl) hl.1 (Nat.le_of_ble_eq_true rfl) (Nat.le_of_ble_eq_true rfl) (Nat.le_of_ble_eq_true rfl) (Nat.le_of_ble_eq_true rfl) (Nat.le_of_ble_eq_true rfl) (x0_castR (q := (RX5, TX5, 8)) F C hq.1.2 hok.1 (pE_4 h9) rfl (by decide) (by decide) q315 (hq.1.1 _ (List.mem_of_getElem? (i := 27) rfl) #[]) dX0_mark_96) (fun hpl a9 ce hv hf hk => ft_skip (by show ¬ (26 ≤ 96 ∧ 96 < 82); decide) (ft_skip (by show ¬ (83 ≤ 96 ∧ 96 < 94); decide) (ft_hit hpl (by show 95 ≤ 96 ∧ 96 < 106; decide) (by decide) hown (hts _ q365) (hq.1.1 _ (List.mem_of_getElem? (i := 5) rfl) _) hf hv hk))) (fun H locs a_29 C => ?_)
            have hw := hw a_29
            exact kX0_mark_107 hX hq F  a_29 s_4 _ _ _ hw C (lv_sub hl [1] rfl)
    · have hw := hw.1 c_6
      refine lv_iconst (v := (-1)) hx hb dX0_mark_17 (by decide) ?_
      refine W.widen (k := 3) (n := 1024) (Nat.le_of_ble_eq_true rfl) (Nat.le_of_ble_eq_true rfl) ?_
      exact x_iret F C hw dX0_mark_18
end
