section
variable {p : Program} {l : Launch} {e : Env} {s : State} {m : MethodId} {args : Array Value} {below : List Frame} {meth : Method} {c : Code} {D : va_G} {d : Nat → ClassId} {E : State → Prop} {A : Nat → Prop} {wf : CS → va_W} {o : Nat} {ad : Nat → Nat}
set_option maxRecDepth 100000
abbrev rmX0_isIn (fr lo : Nat) : Room := { frames := fr + 1, cells := 0, slots := 0, locals := lo + 23 }
def wX0_isIn_29 (rc : (Int32 → CS → Prop) → CS → Int32 → Prop) (post : Int32 → CS → Prop)   (st : CS) : Prop := (post 0 st)
def wX0_isIn_25 (rc : (Int32 → CS → Prop) → CS → Int32 → Prop) (post : Int32 → CS → Prop)   (st : CS) : Prop := (post 1 st)
def bdX0_isIn (rc : (Int32 → CS → Prop) → CS → Int32 → Prop) (post : Int32 → CS → Prop) (s0 : CS) (p0 : Int32) : Prop := ((p0 = (sI s0 16) → (wX0_isIn_29 rc post  s0)) ∧ (¬ p0 = (sI s0 16) → (vp_in p0 24 ∧ (((sA s0 19 p0.toNatClampNeg) = 0 → (rc (fun r_5 s_4 => ((r_5 = 0 → (wX0_isIn_29 rc post  s_4)) ∧ (¬ r_5 = 0 → (wX0_isIn_25 rc post  s_4)))) s0 p0)) ∧ (¬ (sA s0 19 p0.toNatClampNeg) = 0 → (wX0_isIn_25 rc post  s0))))))
set_option maxHeartbeats 4000000 in
theorem kX0_isIn_29 (hX : ∀ U, E U → EL U) {rc : (Int32 → CS → Prop) → CS → Int32 → Prop} {fr lo : Nat} (hrc : ∀ {post : Int32 → CS → Prop} {st : CS} {x : Int32}, rc post st x → CtI l yX0_issueTakes (ws_ yX0_issueTakes cX0_issueTakes 4 (some .boolean)) { frames := fr, cells := 0, slots := 0, locals := lo } D d E (wX o ad d) 0 0 [.ref o, .int x] st post) {post : Int32 → CS → Prop}  (F : Fx p s m args meth c cX0_isIn 2 RX0 (some .boolean) D d E A) : ∀  (st : CS) (H : Heap) (locs : List Loc) (ls : Array Slot), wX0_isIn_29 rc post  st → Cx D (wX o ad d) A s st H locs → lv_has ls 2 [] → W p l e (headSpec (ws_ yX0_isIn cX0_isIn 2 (some .boolean)) (rmX0_isIn fr lo)).room s m args below meth c H locs 0 0 (QI below D d E (wX o ad d) A args s 0 0 post) (F0 m 29 ls []) := by
  obtain ⟨hx, hb, hr, hml, hown, hts, hlk, hA, hK, hE⟩ := id F
  intro st H locs ls hw C hl
  unfold wX0_isIn_29 at hw
  refine lv_iconst (v := 0) hx hb dX0_isIn_29 (by decide) ?_
  exact x_zret F C zb_0 hw dX0_isIn_30
set_option maxHeartbeats 4000000 in
theorem kX0_isIn_25 (hX : ∀ U, E U → EL U) {rc : (Int32 → CS → Prop) → CS → Int32 → Prop} {fr lo : Nat} (hrc : ∀ {post : Int32 → CS → Prop} {st : CS} {x : Int32}, rc post st x → CtI l yX0_issueTakes (ws_ yX0_issueTakes cX0_issueTakes 4 (some .boolean)) { frames := fr, cells := 0, slots := 0, locals := lo } D d E (wX o ad d) 0 0 [.ref o, .int x] st post) {post : Int32 → CS → Prop}  (F : Fx p s m args meth c cX0_isIn 2 RX0 (some .boolean) D d E A) : ∀  (st : CS) (H : Heap) (locs : List Loc) (ls : Array Slot), wX0_isIn_25 rc post  st → Cx D (wX o ad d) A s st H locs → lv_has ls 2 [] → W p l e (headSpec (ws_ yX0_isIn cX0_isIn 2 (some .boolean)) (rmX0_isIn fr lo)).room s m args below meth c H locs 0 0 (QI below D d E (wX o ad d) A args s 0 0 post) (F0 m 25 ls []) := by
  obtain ⟨hx, hb, hr, hml, hown, hts, hlk, hA, hK, hE⟩ := id F
  intro st H locs ls hw C hl
  unfold wX0_isIn_25 at hw
  refine lv_iconst (v := 1) hx hb dX0_isIn_25 (by decide) ?_
  refine lv_goto (tgt := 30) hx hb dX0_isIn_26 (by decide) ?_
  exact x_zret F C zb_1 hw dX0_isIn_30
theorem cbX0_isIn (hE : Em E) (hX : ∀ U, E U → EL U) {rc : (Int32 → CS → Prop) → CS → Int32 → Prop} {fr lo : Nat} (hrc : ∀ {post : Int32 → CS → Prop} {st : CS} {x : Int32}, rc post st x → CtI l yX0_issueTakes (ws_ yX0_issueTakes cX0_issueTakes 4 (some .boolean)) { frames := fr, cells := 0, slots := 0, locals := lo } D d E (wX o ad d) 0 0 [.ref o, .int x] st post) {post : Int32 → CS → Prop} {s0 : CS} {p0 : Int32} (hw : bdX0_isIn rc post s0 p0) : CtI l yX0_isIn (ws_ yX0_isIn cX0_isIn 2 (some .boolean)) (rmX0_isIn fr lo) D d E (wX o ad d) 0 0 [.ref o, .int p0] s0 post := by
  refine CtI.of hE (by decide) rfl (Nat.le_of_ble_eq_true rfl) ?_
  intro p e s m below meth c A ls F C hl
  have hl : lv_has ls 2 [(0, .ref o), (1, .int p0)] := hl
  unfold bdX0_isIn at hw
  obtain ⟨hx, hb, hr, hml, hown, hts, hlk, hA, hK, -⟩ := id F
  refine lv_iload_n hx hb dX0_isIn_0 rfl (lv_at hl 1 rfl) ?_
  refine lv_aload_n hx hb dX0_isIn_1 rfl (lv_at hl 0 rfl) ?_
  refine x0_g16 F C dX0_isIn_2 ?_
  refine lv_icmp_eq (tgt := 29) hx hb dX0_isIn_5 (by decide) (fun c_1 => ?_) (fun c_1 => ?_)
  · have hw := hw.1 c_1
    exact kX0_isIn_29 hX (fr := fr) (lo := lo) hrc F  s0 _ _ _ hw C (lv_sub hl [] rfl)
  · have hw := hw.2 c_1
    refine lv_aload_n hx hb dX0_isIn_8 rfl (lv_at hl 0 rfl) ?_
    refine x0_g19 F C dX0_isIn_9 ?_
    refine lv_iload_n hx hb dX0_isIn_12 rfl (lv_at hl 1 rfl) ?_
    obtain ⟨h_2, hw⟩ := hw
    refine x0_ld19 F C h_2 dX0_isIn_13 ?_
    refine lv_if_ne (tgt := 25) hx hb dX0_isIn_14 (by decide) (fun c_3 => ?_) (fun c_3 => ?_)
    · have hw := hw.2 c_3
      exact kX0_isIn_25 hX (fr := fr) (lo := lo) hrc F  s0 _ _ _ hw C (lv_sub hl [] rfl)
    · have hw := hw.1 c_3
      refine lv_aload_n hx hb dX0_isIn_17 rfl (lv_at hl 0 rfl) ?_
      refine lv_iload_n hx hb dX0_isIn_18 rfl (lv_at hl 1 rfl) ?_
      refine x_callI (rest := []) (ci := 0) (q := (RX0, TX0, 41)) F C (hrc hw) (cwV 1 hts (lw_V q563 q565 qs16 q70 q566) rfl rfl rfl (by decide +kernel) ⟨Nat.le_refl _, by show 8 + (4 + 11) + lo ≤ lo + 23; omega⟩) rfl rfl rfl hl.1 rfl (Nat.le_of_ble_eq_true rfl) dX0_isIn_19 ⟨Nat.zero_le _, Nat.zero_le _⟩ (fun r_5 s_4 H locs hw C => ?_)
      refine lv_if_eq (tgt := 29) hx hb dX0_isIn_22 (by decide) (fun c_6 => ?_) (fun c_6 => ?_)
      · have hw := hw.1 c_6
        exact kX0_isIn_29 hX (fr := fr) (lo := lo) hrc F  s_4 _ _ _ hw C (lv_sub hl [] rfl)
      · have hw := hw.2 c_6
        exact kX0_isIn_25 hX (fr := fr) (lo := lo) hrc F  s_4 _ _ _ hw C (lv_sub hl [] rfl)

abbrev rmX0_issueTakes (fr lo : Nat) : Room := { frames := fr + 1, cells := 0, slots := 0, locals := lo + 21 }
def wX0_issueTakes_90 (rc : (Int32 → CS → Prop) → CS → Int32 → Prop) (post : Int32 → CS → Prop)  (x1 : Int32) (st : CS) : Prop := (vp_in x1 24 ∧ (((sA st 21 x1.toNatClampNeg) = 1 → (post 1 st)) ∧ (¬ (sA st 21 x1.toNatClampNeg) = 1 → (post 0 st))))
def wX0_issueTakes_89 (rc : (Int32 → CS → Prop) → CS → Int32 → Prop) (post : Int32 → CS → Prop)  (x1 : Int32) (y0 : Int32) (y1 : Int32) (st : CS) : Prop := (vp_in y1 24 ∧ ∀ s_8 : CS, s_8 = uA st 21 y1.toNatClampNeg y0 → (wX0_issueTakes_90 rc post  x1 s_8))
def wX0_issueTakes_75 (rc : (Int32 → CS → Prop) → CS → Int32 → Prop) (post : Int32 → CS → Prop)  (x1 : Int32) (x2 : Int32) (st : CS) : Prop := ((x2 = 0 → (wX0_issueTakes_89 rc post  x1 2 x1 st)) ∧ (¬ x2 = 0 → (wX0_issueTakes_89 rc post  x1 1 x1 st)))
def wX0_issueTakes_68 (rc : (Int32 → CS → Prop) → CS → Int32 → Prop) (post : Int32 → CS → Prop) (k13 : Int32 → Int32 → Int32 → CS → Prop) (x1 : Int32) (x3 : Int32) (y0 : Int32) (st : CS) : Prop := (∀ x3_12 : Int32, x3_12 = x3 + 1 → (k13 x1 y0 x3_12 st))
def wX0_issueTakes_67 (rc : (Int32 → CS → Prop) → CS → Int32 → Prop) (post : Int32 → CS → Prop) (k13 : Int32 → Int32 → Int32 → CS → Prop) (x1 : Int32) (x3 : Int32) (st : CS) : Prop := (wX0_issueTakes_68 rc post k13 x1 x3 0 st)
def wX0_issueTakes_13 (rc : (Int32 → CS → Prop) → CS → Int32 → Prop) (post : Int32 → CS → Prop)  : Nat → Int32 → Int32 → Int32 → CS → Prop
  | 0 => fun _ _ _ _ => False
  | n + 1 => fun x1 x2 x3 st => (((sI st 11) ≤ x3 → (wX0_issueTakes_75 rc post  x1 x2 st)) ∧ (¬ (sI st 11) ≤ x3 → ((x2 = 0 → (vp_in x3 40 ∧ (((sA st 20 x3.toNatClampNeg) = 0 → (wX0_issueTakes_67 rc post (wX0_issueTakes_13 rc post  n) x1 x3 st)) ∧ (¬ (sA st 20 x3.toNatClampNeg) = 0 → (vp_in x3 40 ∧ ∃ a_14 : Nat, sR st 10 x3.toNatClampNeg = some a_14 ∧ (okE st a_14 ∧ ((((sE st a_14).2.2 0) = x1 → (vp_in x3 40 ∧ ∃ a_18 : Nat, sR st 10 x3.toNatClampNeg = some a_18 ∧ (okE st a_18 ∧ (rc (fun r_21 s_20 => ((r_21 = 0 → (wX0_issueTakes_67 rc post (wX0_issueTakes_13 rc post  n) x1 x3 s_20)) ∧ (¬ r_21 = 0 → (wX0_issueTakes_68 rc post (wX0_issueTakes_13 rc post  n) x1 x3 1 s_20)))) st ((sE st a_18).2.2 1))))) ∧ (¬ ((sE st a_14).2.2 0) = x1 → (wX0_issueTakes_67 rc post (wX0_issueTakes_13 rc post  n) x1 x3 st))))))))) ∧ (¬ x2 = 0 → (wX0_issueTakes_75 rc post  x1 x2 st)))))
def bdX0_issueTakes (rc : (Int32 → CS → Prop) → CS → Int32 → Prop) (post : Int32 → CS → Prop) (s0 : CS) (p0 : Int32) : Prop := (vp_in p0 24 ∧ (((sA s0 21 p0.toNatClampNeg) = 0 → (∃ fu : Nat, wX0_issueTakes_13 rc post  fu p0 0 0 s0)) ∧ (¬ (sA s0 21 p0.toNatClampNeg) = 0 → (wX0_issueTakes_90 rc post  p0 s0))))
set_option maxHeartbeats 4000000 in
theorem kX0_issueTakes_90 (hX : ∀ U, E U → EL U) {rc : (Int32 → CS → Prop) → CS → Int32 → Prop} {fr lo : Nat} (hrc : ∀ {post : Int32 → CS → Prop} {st : CS} {x : Int32}, rc post st x → CtI l yX0_isIn (ws_ yX0_isIn cX0_isIn 2 (some .boolean)) { frames := fr, cells := 0, slots := 0, locals := lo } D d E (wX o ad d) 0 0 [.ref o, .int x] st post) {post : Int32 → CS → Prop}  (F : Fx p s m args meth c cX0_issueTakes 4 RX0 (some .boolean) D d E A) : ∀ (x1 : Int32) (st : CS) (H : Heap) (locs : List Loc) (ls : Array Slot), wX0_issueTakes_90 rc post  x1 st → Cx D (wX o ad d) A s st H locs → lv_has ls 4 [(0, .ref o), (1, .int x1)] → W p l e (headSpec (ws_ yX0_issueTakes cX0_issueTakes 4 (some .boolean)) (rmX0_issueTakes fr lo)).room s m args below meth c H locs 0 0 (QI below D d E (wX o ad d) A args s 0 0 post) (F0 m 90 ls []) := by
  obtain ⟨hx, hb, hr, hml, hown, hts, hlk, hA, hK, hE⟩ := id F
  intro x1 st H locs ls hw C hl
  unfold wX0_issueTakes_90 at hw
  refine lv_aload_n hx hb dX0_issueTakes_90 rfl (lv_at hl 0 rfl) ?_
  refine x0_g21 F C dX0_issueTakes_91 ?_
  refine lv_iload_n hx hb dX0_issueTakes_94 rfl (lv_at hl 1 rfl) ?_
  obtain ⟨h_3, hw⟩ := hw
  refine x0_ld21 F C h_3 dX0_issueTakes_95 ?_
  refine lv_iconst (v := 1) hx hb dX0_issueTakes_96 (by decide) ?_
  refine lv_icmp_ne (tgt := 104) hx hb dX0_issueTakes_97 (by decide) (fun c_4 => ?_) (fun c_4 => ?_)
  · have hw := hw.2 c_4
    refine lv_iconst (v := 0) hx hb dX0_issueTakes_104 (by decide) ?_
    exact x_zret F C zb_0 hw dX0_issueTakes_105
  · have hw := hw.1 c_4
    refine lv_iconst (v := 1) hx hb dX0_issueTakes_100 (by decide) ?_
    refine lv_goto (tgt := 105) hx hb dX0_issueTakes_101 (by decide) ?_
    exact x_zret F C zb_1 hw dX0_issueTakes_105
set_option maxHeartbeats 4000000 in
theorem kX0_issueTakes_89 (hX : ∀ U, E U → EL U) {rc : (Int32 → CS → Prop) → CS → Int32 → Prop} {fr lo : Nat} (hrc : ∀ {post : Int32 → CS → Prop} {st : CS} {x : Int32}, rc post st x → CtI l yX0_isIn (ws_ yX0_isIn cX0_isIn 2 (some .boolean)) { frames := fr, cells := 0, slots := 0, locals := lo } D d E (wX o ad d) 0 0 [.ref o, .int x] st post) {post : Int32 → CS → Prop}  (F : Fx p s m args meth c cX0_issueTakes 4 RX0 (some .boolean) D d E A) : ∀ (x1 : Int32) (y0 : Int32) (y1 : Int32) (st : CS) (H : Heap) (locs : List Loc) (ls : Array Slot), wX0_issueTakes_89 rc post  x1 y0 y1 st → Cx D (wX o ad d) A s st H locs → lv_has ls 4 [(0, .ref o), (1, .int x1)] → W p l e (headSpec (ws_ yX0_issueTakes cX0_issueTakes 4 (some .boolean)) (rmX0_issueTakes fr lo)).room s m args below meth c H locs 0 0 (QI below D d E (wX o ad d) A args s 0 0 post) (F0 m 89 ls [.int y0, .int y1, .ref (ad 21)]) := by
  obtain ⟨hx, hb, hr, hml, hown, hts, hlk, hA, hK, hE⟩ := id F
  intro x1 y0 y1 st H locs ls hw C hl
  unfold wX0_issueTakes_89 at hw
  obtain ⟨h_7, hw⟩ := hw
  refine x0_st21 F C h_7 dX0_issueTakes_89 (fun H locs s_8 es_8 C => ?_)
  have hw := hw s_8 es_8
  exact kX0_issueTakes_90 hX (fr := fr) (lo := lo) hrc F  x1 s_8 _ _ _ hw C hl
set_option maxHeartbeats 4000000 in
theorem kX0_issueTakes_75 (hX : ∀ U, E U → EL U) {rc : (Int32 → CS → Prop) → CS → Int32 → Prop} {fr lo : Nat} (hrc : ∀ {post : Int32 → CS → Prop} {st : CS} {x : Int32}, rc post st x → CtI l yX0_isIn (ws_ yX0_isIn cX0_isIn 2 (some .boolean)) { frames := fr, cells := 0, slots := 0, locals := lo } D d E (wX o ad d) 0 0 [.ref o, .int x] st post) {post : Int32 → CS → Prop}  (F : Fx p s m args meth c cX0_issueTakes 4 RX0 (some .boolean) D d E A) : ∀ (x1 : Int32) (x2 : Int32) (st : CS) (H : Heap) (locs : List Loc) (ls : Array Slot), wX0_issueTakes_75 rc post  x1 x2 st → Cx D (wX o ad d) A s st H locs → lv_has ls 4 [(0, .ref o), (1, .int x1), (2, .int x2)] → W p l e (headSpec (ws_ yX0_issueTakes cX0_issueTakes 4 (some .boolean)) (rmX0_issueTakes fr lo)).room s m args below meth c H locs 0 0 (QI below D d E (wX o ad d) A args s 0 0 post) (F0 m 75 ls []) := by
  obtain ⟨hx, hb, hr, hml, hown, hts, hlk, hA, hK, hE⟩ := id F
  intro x1 x2 st H locs ls hw C hl
  unfold wX0_issueTakes_75 at hw
  refine lv_aload_n hx hb dX0_issueTakes_75 rfl (lv_at hl 0 rfl) ?_
  refine x0_g21 F C dX0_issueTakes_76 ?_
  refine lv_iload_n hx hb dX0_issueTakes_79 rfl (lv_at hl 1 rfl) ?_
  refine lv_iload_n hx hb dX0_issueTakes_80 rfl (lv_at hl 2 rfl) ?_
  refine lv_if_eq (tgt := 88) hx hb dX0_issueTakes_81 (by decide) (fun c_6 => ?_) (fun c_6 => ?_)
  · have hw := hw.1 c_6
    refine lv_iconst (v := 2) hx hb dX0_issueTakes_88 (by decide) ?_
    exact kX0_issueTakes_89 hX (fr := fr) (lo := lo) hrc F  x1 2 x1 st _ _ _ hw C (lv_sub hl [0, 1] rfl)
  · have hw := hw.2 c_6
    refine lv_iconst (v := 1) hx hb dX0_issueTakes_84 (by decide) ?_
    refine lv_goto (tgt := 89) hx hb dX0_issueTakes_85 (by decide) ?_
    exact kX0_issueTakes_89 hX (fr := fr) (lo := lo) hrc F  x1 1 x1 st _ _ _ hw C (lv_sub hl [0, 1] rfl)
set_option maxHeartbeats 4000000 in
theorem kX0_issueTakes_68 (hX : ∀ U, E U → EL U) {rc : (Int32 → CS → Prop) → CS → Int32 → Prop} {fr lo : Nat} (hrc : ∀ {post : Int32 → CS → Prop} {st : CS} {x : Int32}, rc post st x → CtI l yX0_isIn (ws_ yX0_isIn cX0_isIn 2 (some .boolean)) { frames := fr, cells := 0, slots := 0, locals := lo } D d E (wX o ad d) 0 0 [.ref o, .int x] st post) {post : Int32 → CS → Prop} {k13 : Int32 → Int32 → Int32 → CS → Prop} (F : Fx p s m args meth c cX0_issueTakes 4 RX0 (some .boolean) D d E A) (hk13 : ∀ (x1 : Int32) (x2 : Int32) (x3 : Int32) (st : CS) (H : Heap) (locs : List Loc) (ls : Array Slot), k13 x1 x2 x3 st → Cx D (wX o ad d) A s st H locs → lv_has ls 4 [(0, .ref o), (1, .int x1), (2, .int x2), (3, .int x3)] → W p l e (headSpec (ws_ yX0_issueTakes cX0_issueTakes 4 (some .boolean)) (rmX0_issueTakes fr lo)).room s m args below meth c H locs 0 0 (QI below D d E (wX o ad d) A args s 0 0 post) (F0 m 13 ls [])) : ∀ (x1 : Int32) (x3 : Int32) (y0 : Int32) (st : CS) (H : Heap) (locs : List Loc) (ls : Array Slot), wX0_issueTakes_68 rc post k13 x1 x3 y0 st → Cx D (wX o ad d) A s st H locs → lv_has ls 4 [(0, .ref o), (1, .int x1), (3, .int x3)] → W p l e (headSpec (ws_ yX0_issueTakes cX0_issueTakes 4 (some .boolean)) (rmX0_issueTakes fr lo)).room s m args below meth c H locs 0 0 (QI below D d E (wX o ad d) A args s 0 0 post) (F0 m 68 ls [.int y0]) := by
  obtain ⟨hx, hb, hr, hml, hown, hts, hlk, hA, hK, hE⟩ := id F
  intro x1 x3 y0 st H locs ls hw C hl
  unfold wX0_issueTakes_68 at hw
  refine lv_istore_n (lv' := [(2, .int y0), (0, .ref o), (1, .int x1), (3, .int x3)]) hx hb dX0_issueTakes_68 rfl hl (by decide) rfl (fun ls hl => ?_)
  obtain ⟨x3_12, ex3_12⟩ : ∃ y : Int32, y = x3 + 1 := ⟨_, rfl⟩
  have hw := hw x3_12 ex3_12
  refine lv_iinc (v := x3_12) (lv' := [(3, .int x3_12), (2, .int y0), (0, .ref o), (1, .int x1)]) hx hb dX0_issueTakes_69 hl (k := 3) rfl (by rw [ex3_12]; rfl) (by decide) rfl (fun ls hl => ?_)
  refine lv_goto (tgt := 13) hx hb dX0_issueTakes_72 (by decide) ?_
  exact hk13 x1 y0 x3_12 st _ _ _ hw C (lv_sub hl [2, 3, 1, 0] rfl)
set_option maxHeartbeats 4000000 in
theorem kX0_issueTakes_67 (hX : ∀ U, E U → EL U) {rc : (Int32 → CS → Prop) → CS → Int32 → Prop} {fr lo : Nat} (hrc : ∀ {post : Int32 → CS → Prop} {st : CS} {x : Int32}, rc post st x → CtI l yX0_isIn (ws_ yX0_isIn cX0_isIn 2 (some .boolean)) { frames := fr, cells := 0, slots := 0, locals := lo } D d E (wX o ad d) 0 0 [.ref o, .int x] st post) {post : Int32 → CS → Prop} {k13 : Int32 → Int32 → Int32 → CS → Prop} (F : Fx p s m args meth c cX0_issueTakes 4 RX0 (some .boolean) D d E A) (hk13 : ∀ (x1 : Int32) (x2 : Int32) (x3 : Int32) (st : CS) (H : Heap) (locs : List Loc) (ls : Array Slot), k13 x1 x2 x3 st → Cx D (wX o ad d) A s st H locs → lv_has ls 4 [(0, .ref o), (1, .int x1), (2, .int x2), (3, .int x3)] → W p l e (headSpec (ws_ yX0_issueTakes cX0_issueTakes 4 (some .boolean)) (rmX0_issueTakes fr lo)).room s m args below meth c H locs 0 0 (QI below D d E (wX o ad d) A args s 0 0 post) (F0 m 13 ls [])) : ∀ (x1 : Int32) (x3 : Int32) (st : CS) (H : Heap) (locs : List Loc) (ls : Array Slot), wX0_issueTakes_67 rc post k13 x1 x3 st → Cx D (wX o ad d) A s st H locs → lv_has ls 4 [(0, .ref o), (1, .int x1), (3, .int x3)] → W p l e (headSpec (ws_ yX0_issueTakes cX0_issueTakes 4 (some .boolean)) (rmX0_issueTakes fr lo)).room s m args below meth c H locs 0 0 (QI below D d E (wX o ad d) A args s 0 0 post) (F0 m 67 ls []) := by
  obtain ⟨hx, hb, hr, hml, hown, hts, hlk, hA, hK, hE⟩ := id F
  intro x1 x3 st H locs ls hw C hl
  unfold wX0_issueTakes_67 at hw
  refine lv_iconst (v := 0) hx hb dX0_issueTakes_67 (by decide) ?_
  exact kX0_issueTakes_68 hX (fr := fr) (lo := lo) hrc F hk13 x1 x3 0 st _ _ _ hw C hl
set_option maxHeartbeats 4000000 in
theorem kX0_issueTakes_13 (hX : ∀ U, E U → EL U) {rc : (Int32 → CS → Prop) → CS → Int32 → Prop} {fr lo : Nat} (hrc : ∀ {post : Int32 → CS → Prop} {st : CS} {x : Int32}, rc post st x → CtI l yX0_isIn (ws_ yX0_isIn cX0_isIn 2 (some .boolean)) { frames := fr, cells := 0, slots := 0, locals := lo } D d E (wX o ad d) 0 0 [.ref o, .int x] st post) {post : Int32 → CS → Prop}  (F : Fx p s m args meth c cX0_issueTakes 4 RX0 (some .boolean) D d E A) : ∀ (fu : Nat) (x1 : Int32) (x2 : Int32) (x3 : Int32) (st : CS) (H : Heap) (locs : List Loc) (ls : Array Slot), wX0_issueTakes_13 rc post  fu x1 x2 x3 st → Cx D (wX o ad d) A s st H locs → lv_has ls 4 [(0, .ref o), (1, .int x1), (2, .int x2), (3, .int x3)] → W p l e (headSpec (ws_ yX0_issueTakes cX0_issueTakes 4 (some .boolean)) (rmX0_issueTakes fr lo)).room s m args below meth c H locs 0 0 (QI below D d E (wX o ad d) A args s 0 0 post) (F0 m 13 ls []) := by
  obtain ⟨hx, hb, hr, hml, hown, hts, hlk, hA, hK, hE⟩ := id F
  intro fu
  induction fu with
  | zero =>
    intro x1 x2 x3 st H locs ls hw
    exact hw.elim
  | succ n ih =>
    have hk13 := ih
    intro x1 x2 x3 st H locs ls hw C hl
    unfold wX0_issueTakes_13 at hw
    refine lv_iload_n hx hb dX0_issueTakes_13 rfl (lv_at hl 3 rfl) ?_
    refine lv_aload_n hx hb dX0_issueTakes_14 rfl (lv_at hl 0 rfl) ?_
    refine x0_g11 F C dX0_issueTakes_15 ?_
    refine lv_icmp_ge (tgt := 75) hx hb dX0_issueTakes_18 (by decide) (fun c_5 => ?_) (fun c_5 => ?_)
    · have hw := hw.1 c_5
      exact kX0_issueTakes_75 hX (fr := fr) (lo := lo) hrc F  x1 x2 st _ _ _ hw C (lv_sub hl [0, 1, 2] rfl)
    · have hw := hw.2 c_5
      refine lv_iload_n hx hb dX0_issueTakes_21 rfl (lv_at hl 2 rfl) ?_
      refine lv_if_ne (tgt := 75) hx hb dX0_issueTakes_22 (by decide) (fun c_9 => ?_) (fun c_9 => ?_)
      · have hw := hw.2 c_9
        exact kX0_issueTakes_75 hX (fr := fr) (lo := lo) hrc F  x1 x2 st _ _ _ hw C (lv_sub hl [0, 1, 2] rfl)
      · have hw := hw.1 c_9
        refine lv_aload_n hx hb dX0_issueTakes_25 rfl (lv_at hl 0 rfl) ?_
        refine x0_g20 F C dX0_issueTakes_26 ?_
        refine lv_iload_n hx hb dX0_issueTakes_29 rfl (lv_at hl 3 rfl) ?_
        obtain ⟨h_10, hw⟩ := hw
        refine x0_ld20 F C h_10 dX0_issueTakes_30 ?_
        refine lv_if_eq (tgt := 67) hx hb dX0_issueTakes_31 (by decide) (fun c_11 => ?_) (fun c_11 => ?_)
        · have hw := hw.1 c_11
          exact kX0_issueTakes_67 hX (fr := fr) (lo := lo) hrc F hk13 x1 x3 st _ _ _ hw C (lv_sub hl [0, 1, 3] rfl)
        · have hw := hw.2 c_11
          refine lv_aload_n hx hb dX0_issueTakes_34 rfl (lv_at hl 0 rfl) ?_
          refine x0_g10 F C dX0_issueTakes_35 ?_
          refine lv_iload_n hx hb dX0_issueTakes_38 rfl (lv_at hl 3 rfl) ?_
          obtain ⟨h_13, a_14, ha_14, hw⟩ := hw
          refine x0_ldL F C h_13 ha_14 dX0_issueTakes_39 ?_
          obtain ⟨h_15, hw⟩ := hw
          refine x0_gL0 F C h_15 dX0_issueTakes_40 ?_
          refine lv_iload_n hx hb dX0_issueTakes_43 rfl (lv_at hl 1 rfl) ?_
          refine lv_icmp_ne (tgt := 67) hx hb dX0_issueTakes_44 (by decide) (fun c_16 => ?_) (fun c_16 => ?_)
          · have hw := hw.2 c_16
            exact kX0_issueTakes_67 hX (fr := fr) (lo := lo) hrc F hk13 x1 x3 st _ _ _ hw C (lv_sub hl [0, 1, 3] rfl)
          · have hw := hw.1 c_16
            refine lv_aload_n hx hb dX0_issueTakes_47 rfl (lv_at hl 0 rfl) ?_
            refine lv_aload_n hx hb dX0_issueTakes_48 rfl (lv_at hl 0 rfl) ?_
            refine x0_g10 F C dX0_issueTakes_49 ?_
            refine lv_iload_n hx hb dX0_issueTakes_52 rfl (lv_at hl 3 rfl) ?_
            obtain ⟨h_17, a_18, ha_18, hw⟩ := hw
            refine x0_ldL F C h_17 ha_18 dX0_issueTakes_53 ?_
            obtain ⟨h_19, hw⟩ := hw
            refine x0_gL1 F C h_19 dX0_issueTakes_54 ?_
            refine x_callI (rest := []) (ci := 0) (q := (RX0, TX0, 41)) F C (hrc hw) (cwV 1 hts (lw_V q567 q569 qs17 q70 q570) rfl rfl rfl (by decide +kernel) ⟨Nat.le_refl _, by show 8 + (2 + 11) + lo ≤ lo + 21; omega⟩) rfl rfl rfl hl.1 rfl (Nat.le_of_ble_eq_true rfl) dX0_issueTakes_57 ⟨Nat.zero_le _, Nat.zero_le _⟩ (fun r_21 s_20 H locs hw C => ?_)
            refine lv_if_eq (tgt := 67) hx hb dX0_issueTakes_60 (by decide) (fun c_22 => ?_) (fun c_22 => ?_)
            · have hw := hw.1 c_22
              exact kX0_issueTakes_67 hX (fr := fr) (lo := lo) hrc F hk13 x1 x3 s_20 _ _ _ hw C (lv_sub hl [0, 1, 3] rfl)
            · have hw := hw.2 c_22
              refine lv_iconst (v := 1) hx hb dX0_issueTakes_63 (by decide) ?_
              refine lv_goto (tgt := 68) hx hb dX0_issueTakes_64 (by decide) ?_
              exact kX0_issueTakes_68 hX (fr := fr) (lo := lo) hrc F hk13 x1 x3 1 s_20 _ _ _ hw C (lv_sub hl [0, 1, 3] rfl)
theorem cbX0_issueTakes (hE : Em E) (hX : ∀ U, E U → EL U) {rc : (Int32 → CS → Prop) → CS → Int32 → Prop} {fr lo : Nat} (hrc : ∀ {post : Int32 → CS → Prop} {st : CS} {x : Int32}, rc post st x → CtI l yX0_isIn (ws_ yX0_isIn cX0_isIn 2 (some .boolean)) { frames := fr, cells := 0, slots := 0, locals := lo } D d E (wX o ad d) 0 0 [.ref o, .int x] st post) {post : Int32 → CS → Prop} {s0 : CS} {p0 : Int32} (hw : bdX0_issueTakes rc post s0 p0) : CtI l yX0_issueTakes (ws_ yX0_issueTakes cX0_issueTakes 4 (some .boolean)) (rmX0_issueTakes fr lo) D d E (wX o ad d) 0 0 [.ref o, .int p0] s0 post := by
  refine CtI.of hE (by decide) rfl (Nat.le_of_ble_eq_true rfl) ?_
  intro p e s m below meth c A ls F C hl
  have hl : lv_has ls 4 [(0, .ref o), (1, .int p0)] := hl
  unfold bdX0_issueTakes at hw
  obtain ⟨hx, hb, hr, hml, hown, hts, hlk, hA, hK, -⟩ := id F
  refine lv_aload_n hx hb dX0_issueTakes_0 rfl (lv_at hl 0 rfl) ?_
  refine x0_g21 F C dX0_issueTakes_1 ?_
  refine lv_iload_n hx hb dX0_issueTakes_4 rfl (lv_at hl 1 rfl) ?_
  obtain ⟨h_1, hw⟩ := hw
  refine x0_ld21 F C h_1 dX0_issueTakes_5 ?_
  refine lv_if_ne (tgt := 90) hx hb dX0_issueTakes_6 (by decide) (fun c_2 => ?_) (fun c_2 => ?_)
  · have hw := hw.2 c_2
    exact kX0_issueTakes_90 hX (fr := fr) (lo := lo) hrc F  p0 s0 _ _ _ hw C hl
  · have hw := hw.1 c_2
    refine lv_iconst (v := 0) hx hb dX0_issueTakes_9 (by decide) ?_
    refine lv_istore_n (lv' := [(2, .int 0), (0, .ref o), (1, .int p0)]) hx hb dX0_issueTakes_10 rfl hl (by decide) rfl (fun ls hl => ?_)
    refine lv_iconst (v := 0) hx hb dX0_issueTakes_11 (by decide) ?_
    refine lv_istore_n (lv' := [(3, .int 0), (2, .int 0), (0, .ref o), (1, .int p0)]) hx hb dX0_issueTakes_12 rfl hl (by decide) rfl (fun ls hl => ?_)
    obtain ⟨fu, hw⟩ := hw
    exact kX0_issueTakes_13 hX (fr := fr) (lo := lo) hrc F  fu p0 0 0 s0 _ _ _ hw C (lv_sub hl [2, 3, 1, 0] rfl)

def wpX0_isIn : Nat → (Int32 → CS → Prop) → CS → Int32 → Prop
  | 0 => fun _ _ _ => False
  | n + 1 => fun post st x => bdX0_isIn (bdX0_issueTakes (wpX0_isIn n)) post st x
def wpX0_issueTakes (n : Nat) (post : Int32 → CS → Prop) (st : CS) (x : Int32) : Prop := bdX0_issueTakes (wpX0_isIn n) post st x
theorem ctX0_isIn (n : Nat) (hE : Em E) (hX : ∀ U, E U → EL U) : ∀ {post : Int32 → CS → Prop} {st : CS} {x : Int32}, wpX0_isIn n post st x → CtI l yX0_isIn (ws_ yX0_isIn cX0_isIn 2 (some .boolean)) { frames := 2 * n, cells := 0, slots := 0, locals := 44 * n } D d E (wX o ad d) 0 0 [.ref o, .int x] st post := by
  induction n with
  | zero => intro post st x h; exact h.elim
  | succ n ih =>
    intro post st x h
    have h1 := cbX0_isIn (l := l) (D := D) (d := d) (ad := ad) (o := o) hE hX (rc := bdX0_issueTakes (wpX0_isIn n)) (fr := 2 * n + 1) (lo := 44 * n + 21) (fun h => cbX0_issueTakes hE hX (rc := wpX0_isIn n) (fr := 2 * n) (lo := 44 * n) ih h) h
    have e : (rmX0_isIn (2 * n + 1) (44 * n + 21)) = { frames := 2 * (n + 1), cells := 0, slots := 0, locals := 44 * (n + 1) } := by
      unfold rmX0_isIn
      congr 1 <;> omega
    rw [← e]
    exact h1
theorem ctX0_issueTakes (n : Nat) (hE : Em E) (hX : ∀ U, E U → EL U) {post : Int32 → CS → Prop} {st : CS} {x : Int32} (h : wpX0_issueTakes n post st x) : CtI l yX0_issueTakes (ws_ yX0_issueTakes cX0_issueTakes 4 (some .boolean)) { frames := 2 * n + 1, cells := 0, slots := 0, locals := 44 * n + 21 } D d E (wX o ad d) 0 0 [.ref o, .int x] st post :=
  cbX0_issueTakes hE hX (rc := wpX0_isIn n) (fr := 2 * n) (lo := 44 * n) (ctX0_isIn n hE hX) h

abbrev rmX0_upper : Room := { frames := 0, cells := 0, slots := 0, locals := 0 }
def wpX0_upper  (post : Int64 → CS → Prop) (s0 : CS)  : Prop := (post (sL s0 2) s0)
theorem ctX0_upper (hE : Em E) (hX : ∀ U, E U → EL U) {post : Int64 → CS → Prop} {s0 : CS}  (hw : wpX0_upper  post s0 ) : CtL l yX0_upper (ws_ yX0_upper cX0_upper 1 (some .long)) rmX0_upper D d E (wX o ad d) 0 0 [.ref o] s0 post := by
  refine CtL.of hE (by decide) rfl (Nat.le_of_ble_eq_true rfl) ?_
  intro p e s m below meth c A ls F C hl
  have hl : lv_has ls 1 [(0, .ref o)] := hl
  unfold wpX0_upper at hw
  obtain ⟨hx, hb, hr, hml, hown, hts, hlk, hA, hK, -⟩ := id F
  refine lv_aload_n hx hb dX0_upper_0 rfl (lv_at hl 0 rfl) ?_
  refine x0_g2 F C dX0_upper_1 ?_
  exact x_lret F C hw dX0_upper_4

abbrev rmX0_lower : Room := { frames := 0, cells := 0, slots := 0, locals := 0 }
def wpX0_lower  (post : Int64 → CS → Prop) (s0 : CS)  : Prop := (post (sL s0 3) s0)
theorem ctX0_lower (hE : Em E) (hX : ∀ U, E U → EL U) {post : Int64 → CS → Prop} {s0 : CS}  (hw : wpX0_lower  post s0 ) : CtL l yX0_lower (ws_ yX0_lower cX0_lower 1 (some .long)) rmX0_lower D d E (wX o ad d) 0 0 [.ref o] s0 post := by
  refine CtL.of hE (by decide) rfl (Nat.le_of_ble_eq_true rfl) ?_
  intro p e s m below meth c A ls F C hl
  have hl : lv_has ls 1 [(0, .ref o)] := hl
  unfold wpX0_lower at hw
  obtain ⟨hx, hb, hr, hml, hown, hts, hlk, hA, hK, -⟩ := id F
  refine lv_aload_n hx hb dX0_lower_0 rfl (lv_at hl 0 rfl) ?_
  refine x0_g3 F C dX0_lower_1 ?_
  exact x_lret F C hw dX0_lower_4

abbrev rmX0_in : Room := { frames := 0, cells := 0, slots := 0, locals := 0 }
def wX0_in_14  (post : Int32 → CS → Prop)   (st : CS) : Prop := (post 0 st)
def wpX0_in  (post : Int32 → CS → Prop) (s0 : CS) (p0 : Int32) (p1 : Int32) (p2 : Int32) : Prop := ((p0 < p1 → (wX0_in_14  post  s0)) ∧ (¬ p0 < p1 → ((p2 < p0 → (wX0_in_14  post  s0)) ∧ (¬ p2 < p0 → (post 1 s0)))))
set_option maxHeartbeats 4000000 in
theorem kX0_in_14  {post : Int32 → CS → Prop}  (F : Fx p s m args meth c cX0_in 3 RX0 (some .boolean) D d E A) : ∀  (st : CS) (H : Heap) (locs : List Loc) (ls : Array Slot), wX0_in_14  post  st → Cx D wf A s st H locs → lv_has ls 3 [] → W p l e (headSpec (ws_ yX0_in cX0_in 3 (some .boolean)) rmX0_in).room s m args below meth c H locs 0 0 (QI below D d E wf A args s 0 0 post) (F0 m 14 ls []) := by
  obtain ⟨hx, hb, hr, hml, hown, hts, hlk, hA, hK, hE⟩ := id F
  intro st H locs ls hw C hl
  unfold wX0_in_14 at hw
  refine lv_iconst (v := 0) hx hb dX0_in_14 (by decide) ?_
  exact x_zret F C zb_0 hw dX0_in_15
theorem ctX0_in (hE : Em E)  {post : Int32 → CS → Prop} {s0 : CS} {p0 p1 p2 : Int32} (hw : wpX0_in  post s0 p0 p1 p2) : CtI l yX0_in (ws_ yX0_in cX0_in 3 (some .boolean)) rmX0_in D d E wf 0 0 [.int p0, .int p1, .int p2] s0 post := by
  refine CtI.of hE (by decide) rfl (Nat.le_of_ble_eq_true rfl) ?_
  intro p e s m below meth c A ls F C hl
  have hl : lv_has ls 3 [(0, .int p0), (1, .int p1), (2, .int p2)] := hl
  unfold wpX0_in at hw
  obtain ⟨hx, hb, hr, hml, hown, hts, hlk, hA, hK, -⟩ := id F
  refine lv_iload_n hx hb dX0_in_0 rfl (lv_at hl 0 rfl) ?_
  refine lv_iload_n hx hb dX0_in_1 rfl (lv_at hl 1 rfl) ?_
  refine lv_icmp_lt (tgt := 14) hx hb dX0_in_2 (by decide) (fun c_1 => ?_) (fun c_1 => ?_)
  · have hw := hw.1 c_1
    exact kX0_in_14  F  s0 _ _ _ hw C (lv_sub hl [] rfl)
  · have hw := hw.2 c_1
    refine lv_iload_n hx hb dX0_in_5 rfl (lv_at hl 0 rfl) ?_
    refine lv_iload_n hx hb dX0_in_6 rfl (lv_at hl 2 rfl) ?_
    refine lv_icmp_gt (tgt := 14) hx hb dX0_in_7 (by decide) (fun c_2 => ?_) (fun c_2 => ?_)
    · have hw := hw.1 c_2
      exact kX0_in_14  F  s0 _ _ _ hw C (lv_sub hl [] rfl)
    · have hw := hw.2 c_2
      refine lv_iconst (v := 1) hx hb dX0_in_10 (by decide) ?_
      refine lv_goto (tgt := 15) hx hb dX0_in_11 (by decide) ?_
      exact x_zret F C zb_1 hw dX0_in_15

abbrev rmX0_isDay : Room := { frames := 1, cells := 0, slots := 0, locals := 22 }
def wpX0_isDay  (post : Int32 → CS → Prop) (s0 : CS) (p0 : Int32) : Prop := (wpX0_in (fun r_2 s_1 => (zb r_2 ∧ post r_2 s_1)) s0 p0 1 100000)
theorem ctX0_isDay (hE : Em E)  {post : Int32 → CS → Prop} {s0 : CS} {p0 : Int32} (hw : wpX0_isDay  post s0 p0) : CtI l yX0_isDay (ws_ yX0_isDay cX0_isDay 1 (some .boolean)) rmX0_isDay D d E wf 0 0 [.int p0] s0 post := by
  refine CtI.of hE (by decide) rfl (Nat.le_of_ble_eq_true rfl) ?_
  intro p e s m below meth c A ls F C hl
  have hl : lv_has ls 1 [(0, .int p0)] := hl
  unfold wpX0_isDay at hw
  obtain ⟨hx, hb, hr, hml, hown, hts, hlk, hA, hK, -⟩ := id F
  refine lv_iload_n hx hb dX0_isDay_0 rfl (lv_at hl 0 rfl) ?_
  refine lv_iconst (v := 1) hx hb dX0_isDay_1 (by decide) ?_
  refine lv_ldc hx hb hown (hts _ q246) dX0_isDay_2 ?_
  refine x_callSI (rest := []) F C (ctX0_in hE hw) (va_cwS 3 hts (lw_S q240 q241 q70 q242) rfl rfl rfl (by decide +kernel) ⟨Nat.le_of_ble_eq_true rfl, Nat.le_of_ble_eq_true rfl⟩) rfl hl.1 rfl (Nat.le_of_ble_eq_true rfl) dX0_isDay_4 ⟨Nat.zero_le _, Nat.zero_le _⟩ (fun r_2 s_1 H locs hw C => ?_)
  exact x_zret F C hw.1 hw.2 dX0_isDay_7

abbrev rmX0_person : Room := { frames := 2, cells := 0, slots := 0, locals := 42 }
def wX0_person_34  (post : Int32 → CS → Prop)  (x1 : Int32) (x2 : Int32) (x3 : Int32) (st : CS) : Prop := (((sI st 6) = 24 → (post (-2) st)) ∧ (¬ (sI st 6) = 24 → (vp_in (sI st 6) 24 ∧ ∀ s_10 : CS, s_10 = uA st 7 (sI st 6).toNatClampNeg x1 → (vp_in (sI s_10 6) 24 ∧ ∀ s_12 : CS, s_12 = uA s_10 8 (sI s_10 6).toNatClampNeg x2 → (vp_in (sI s_12 6) 24 ∧ ∀ s_14 : CS, s_14 = uA s_12 9 (sI s_12 6).toNatClampNeg x3 → (∀ s_15 : CS, s_15 = uI s_14 6 ((sI s_14 6) + 1) → (post ((sI s_15 6) - 1) s_15)))))))
def wpX0_person  (post : Int32 → CS → Prop) (s0 : CS) (p0 : Int32) (p1 : Int32) (p2 : Int32) : Prop := (wpX0_in (fun r_2 s_1 => ((r_2 = 0 → (post (-1) s_1)) ∧ (¬ r_2 = 0 → (wpX0_isDay (fun r_5 s_4 => ((r_5 = 0 → (post (-1) s_4)) ∧ (¬ r_5 = 0 → ((p2 = (-9) → (wX0_person_34  post  p0 p1 p2 s_4)) ∧ (¬ p2 = (-9) → (wpX0_in (fun r_17 s_16 => ((r_17 = 0 → (post (-1) s_16)) ∧ (¬ r_17 = 0 → (wX0_person_34  post  p0 p1 p2 s_16)))) s_4 p2 p1 100000)))))) s_1 p1)))) s0 p0 0 3)
set_option maxHeartbeats 4000000 in
theorem kX0_person_34 (hX : ∀ U, E U → EL U) {post : Int32 → CS → Prop}  (F : Fx p s m args meth c cX0_person 4 RX0 (some .int) D d E A) : ∀ (x1 : Int32) (x2 : Int32) (x3 : Int32) (st : CS) (H : Heap) (locs : List Loc) (ls : Array Slot), wX0_person_34  post  x1 x2 x3 st → Cx D (wX o ad d) A s st H locs → lv_has ls 4 [(0, .ref o), (1, .int x1), (2, .int x2), (3, .int x3)] → W p l e (headSpec (ws_ yX0_person cX0_person 4 (some .int)) rmX0_person).room s m args below meth c H locs 0 0 (QI below D d E (wX o ad d) A args s 0 0 post) (F0 m 34 ls []) := by
  obtain ⟨hx, hb, hr, hml, hown, hts, hlk, hA, hK, hE⟩ := id F
  intro x1 x2 x3 st H locs ls hw C hl
  unfold wX0_person_34 at hw
  refine lv_aload_n hx hb dX0_person_34 rfl (lv_at hl 0 rfl) ?_
  refine x0_g6 F C dX0_person_35 ?_
  refine lv_bipush (v := 24) hx hb dX0_person_38 (by decide) ?_
  refine lv_icmp_ne (tgt := 46) hx hb dX0_person_40 (by decide) (fun c_8 => ?_) (fun c_8 => ?_)
  · have hw := hw.2 c_8
    refine lv_aload_n hx hb dX0_person_46 rfl (lv_at hl 0 rfl) ?_
    refine x0_g7 F C dX0_person_47 ?_
    refine lv_aload_n hx hb dX0_person_50 rfl (lv_at hl 0 rfl) ?_
    refine x0_g6 F C dX0_person_51 ?_
    refine lv_iload_n hx hb dX0_person_54 rfl (lv_at hl 1 rfl) ?_
    obtain ⟨h_9, hw⟩ := hw
    refine x0_st7 F C h_9 dX0_person_55 (fun H locs s_10 es_10 C => ?_)
    have hw := hw s_10 es_10
    refine lv_aload_n hx hb dX0_person_56 rfl (lv_at hl 0 rfl) ?_
    refine x0_g8 F C dX0_person_57 ?_
    refine lv_aload_n hx hb dX0_person_60 rfl (lv_at hl 0 rfl) ?_
    refine x0_g6 F C dX0_person_61 ?_
    refine lv_iload_n hx hb dX0_person_64 rfl (lv_at hl 2 rfl) ?_
    obtain ⟨h_11, hw⟩ := hw
    refine x0_st8 F C h_11 dX0_person_65 (fun H locs s_12 es_12 C => ?_)
    have hw := hw s_12 es_12
    refine lv_aload_n hx hb dX0_person_66 rfl (lv_at hl 0 rfl) ?_
    refine x0_g9 F C dX0_person_67 ?_
    refine lv_aload_n hx hb dX0_person_70 rfl (lv_at hl 0 rfl) ?_
    refine x0_g6 F C dX0_person_71 ?_
    refine lv_iload_n hx hb dX0_person_74 rfl (lv_at hl 3 rfl) ?_
    obtain ⟨h_13, hw⟩ := hw
    refine x0_st9 F C h_13 dX0_person_75 (fun H locs s_14 es_14 C => ?_)
    have hw := hw s_14 es_14
    refine lv_aload_n hx hb dX0_person_76 rfl (lv_at hl 0 rfl) ?_
    refine lv_dup hx hb dX0_person_77 rfl ?_
    refine x0_g6 F C dX0_person_78 ?_
    refine lv_iconst (v := 1) hx hb dX0_person_81 (by decide) ?_
    refine lv_iadd hx hb dX0_person_82 ?_
    refine x0_p6 F C dX0_person_83 (fun H locs s_15 es_15 C => ?_)
    have hw := hw s_15 es_15
    refine lv_aload_n hx hb dX0_person_86 rfl (lv_at hl 0 rfl) ?_
    refine x0_g6 F C dX0_person_87 ?_
    refine lv_iconst (v := 1) hx hb dX0_person_90 (by decide) ?_
    refine lv_isub hx hb dX0_person_91 ?_
    exact x_iret F C hw dX0_person_92
  · have hw := hw.1 c_8
    refine lv_bipush (v := (-2)) hx hb dX0_person_43 (by decide) ?_
    exact x_iret F C hw dX0_person_45
theorem ctX0_person (hE : Em E) (hX : ∀ U, E U → EL U) {post : Int32 → CS → Prop} {s0 : CS} {p0 p1 p2 : Int32} (hw : wpX0_person  post s0 p0 p1 p2) : CtI l yX0_person (ws_ yX0_person cX0_person 4 (some .int)) rmX0_person D d E (wX o ad d) 0 0 [.ref o, .int p0, .int p1, .int p2] s0 post := by
  refine CtI.of hE (by decide) rfl (Nat.le_of_ble_eq_true rfl) ?_
  intro p e s m below meth c A ls F C hl
  have hl : lv_has ls 4 [(0, .ref o), (1, .int p0), (2, .int p1), (3, .int p2)] := hl
  unfold wpX0_person at hw
  obtain ⟨hx, hb, hr, hml, hown, hts, hlk, hA, hK, -⟩ := id F
  refine lv_iload_n hx hb dX0_person_0 rfl (lv_at hl 1 rfl) ?_
  refine lv_iconst (v := 0) hx hb dX0_person_1 (by decide) ?_
  refine lv_iconst (v := 3) hx hb dX0_person_2 (by decide) ?_
  refine x_callSI (rest := []) F C (ctX0_in hE hw) (va_cwS 3 hts (lw_S q240 q241 q70 q242) rfl rfl rfl (by decide +kernel) ⟨Nat.le_of_ble_eq_true rfl, Nat.le_of_ble_eq_true rfl⟩) rfl hl.1 rfl (Nat.le_of_ble_eq_true rfl) dX0_person_3 ⟨Nat.zero_le _, Nat.zero_le _⟩ (fun r_2 s_1 H locs hw C => ?_)
  refine lv_if_eq (tgt := 32) hx hb dX0_person_6 (by decide) (fun c_3 => ?_) (fun c_3 => ?_)
  · have hw := hw.1 c_3
    refine lv_iconst (v := (-1)) hx hb dX0_person_32 (by decide) ?_
    exact x_iret F C hw dX0_person_33
  · have hw := hw.2 c_3
    refine lv_iload_n hx hb dX0_person_9 rfl (lv_at hl 2 rfl) ?_
    refine x_callSI (rest := []) F C (ctX0_isDay hE hw) (va_cwS 1 hts (lw_S q243 q244 q70 q245) rfl rfl rfl (by decide +kernel) ⟨Nat.le_of_ble_eq_true rfl, Nat.le_of_ble_eq_true rfl⟩) rfl hl.1 rfl (Nat.le_of_ble_eq_true rfl) dX0_person_10 ⟨Nat.zero_le _, Nat.zero_le _⟩ (fun r_5 s_4 H locs hw C => ?_)
    refine lv_if_eq (tgt := 32) hx hb dX0_person_13 (by decide) (fun c_6 => ?_) (fun c_6 => ?_)
    · have hw := hw.1 c_6
      refine lv_iconst (v := (-1)) hx hb dX0_person_32 (by decide) ?_
      exact x_iret F C hw dX0_person_33
    · have hw := hw.2 c_6
      refine lv_iload_n hx hb dX0_person_16 rfl (lv_at hl 3 rfl) ?_
      refine lv_bipush (v := (-9)) hx hb dX0_person_17 (by decide) ?_
      refine lv_icmp_eq (tgt := 34) hx hb dX0_person_19 (by decide) (fun c_7 => ?_) (fun c_7 => ?_)
      · have hw := hw.1 c_7
        exact kX0_person_34 hX F  p0 p1 p2 s_4 _ _ _ hw C hl
      · have hw := hw.2 c_7
        refine lv_iload_n hx hb dX0_person_22 rfl (lv_at hl 3 rfl) ?_
        refine lv_iload_n hx hb dX0_person_23 rfl (lv_at hl 2 rfl) ?_
        refine lv_ldc hx hb hown (hts _ q246) dX0_person_24 ?_
        refine x_callSI (rest := []) F C (ctX0_in hE hw) (va_cwS 3 hts (lw_S q240 q241 q70 q242) rfl rfl rfl (by decide +kernel) ⟨Nat.le_of_ble_eq_true rfl, Nat.le_of_ble_eq_true rfl⟩) rfl hl.1 rfl (Nat.le_of_ble_eq_true rfl) dX0_person_26 ⟨Nat.zero_le _, Nat.zero_le _⟩ (fun r_17 s_16 H locs hw C => ?_)
        refine lv_if_ne (tgt := 34) hx hb dX0_person_29 (by decide) (fun c_18 => ?_) (fun c_18 => ?_)
        · have hw := hw.2 c_18
          exact kX0_person_34 hX F  p0 p1 p2 s_16 _ _ _ hw C hl
        · have hw := hw.1 c_18
          refine lv_iconst (v := (-1)) hx hb dX0_person_32 (by decide) ?_
          exact x_iret F C hw dX0_person_33

abbrev rmX0_isPerson : Room := { frames := 1, cells := 0, slots := 0, locals := 22 }
def wpX0_isPerson  (post : Int32 → CS → Prop) (s0 : CS) (p0 : Int32) : Prop := (wpX0_in (fun r_2 s_1 => (zb r_2 ∧ post r_2 s_1)) s0 p0 0 ((sI s0 6) - 1))
theorem ctX0_isPerson (hE : Em E) (hX : ∀ U, E U → EL U) {post : Int32 → CS → Prop} {s0 : CS} {p0 : Int32} (hw : wpX0_isPerson  post s0 p0) : CtI l yX0_isPerson (ws_ yX0_isPerson cX0_isPerson 2 (some .boolean)) rmX0_isPerson D d E (wX o ad d) 0 0 [.ref o, .int p0] s0 post := by
  refine CtI.of hE (by decide) rfl (Nat.le_of_ble_eq_true rfl) ?_
  intro p e s m below meth c A ls F C hl
  have hl : lv_has ls 2 [(0, .ref o), (1, .int p0)] := hl
  unfold wpX0_isPerson at hw
  obtain ⟨hx, hb, hr, hml, hown, hts, hlk, hA, hK, -⟩ := id F
  refine lv_iload_n hx hb dX0_isPerson_0 rfl (lv_at hl 1 rfl) ?_
  refine lv_iconst (v := 0) hx hb dX0_isPerson_1 (by decide) ?_
  refine lv_aload_n hx hb dX0_isPerson_2 rfl (lv_at hl 0 rfl) ?_
  refine x0_g6 F C dX0_isPerson_3 ?_
  refine lv_iconst (v := 1) hx hb dX0_isPerson_6 (by decide) ?_
  refine lv_isub hx hb dX0_isPerson_7 ?_
  refine x_callSI (rest := []) F C (ctX0_in hE hw) (va_cwS 3 hts (lw_S q240 q241 q70 q242) rfl rfl rfl (by decide +kernel) ⟨Nat.le_of_ble_eq_true rfl, Nat.le_of_ble_eq_true rfl⟩) rfl hl.1 rfl (Nat.le_of_ble_eq_true rfl) dX0_isPerson_8 ⟨Nat.zero_le _, Nat.zero_le _⟩ (fun r_2 s_1 H locs hw C => ?_)
  exact x_zret F C hw.1 hw.2 dX0_isPerson_11

abbrev rmX0_linesTo : Room := { frames := 0, cells := 0, slots := 0, locals := 0 }
def wX0_linesTo_43  (post : Int32 → CS → Prop) (k4 : Int32 → Int32 → Int32 → CS → Prop) (x1 : Int32) (x3 : Int32) (y0 : Int32) (y1 : Int32) (st : CS) : Prop := (∀ x2_6 : Int32, x2_6 = (y1 + y0) → (∀ x3_7 : Int32, x3_7 = x3 + 1 → (k4 x1 x2_6 x3_7 st)))
def wX0_linesTo_42  (post : Int32 → CS → Prop) (k4 : Int32 → Int32 → Int32 → CS → Prop) (x1 : Int32) (x3 : Int32) (y0 : Int32) (st : CS) : Prop := (wX0_linesTo_43  post k4 x1 x3 0 y0 st)
def wX0_linesTo_4  (post : Int32 → CS → Prop)  : Nat → Int32 → Int32 → Int32 → CS → Prop
  | 0 => fun _ _ _ _ => False
  | n + 1 => fun x1 x2 x3 st => (((sI st 11) ≤ x3 → (post x2 st)) ∧ (¬ (sI st 11) ≤ x3 → (vp_in x3 40 ∧ ∃ a_3 : Nat, sR st 10 x3.toNatClampNeg = some a_3 ∧ (okE st a_3 ∧ ((((sE st a_3).2.2 2) = 0 → (vp_in x3 40 ∧ ∃ a_9 : Nat, sR st 10 x3.toNatClampNeg = some a_9 ∧ (okE st a_9 ∧ ((((sE st a_9).2.2 1) = x1 → (wX0_linesTo_43  post (wX0_linesTo_4  post  n) x1 x3 1 x2 st)) ∧ (¬ ((sE st a_9).2.2 1) = x1 → (wX0_linesTo_42  post (wX0_linesTo_4  post  n) x1 x3 x2 st)))))) ∧ (¬ ((sE st a_3).2.2 2) = 0 → (wX0_linesTo_42  post (wX0_linesTo_4  post  n) x1 x3 x2 st)))))))
def wpX0_linesTo  (post : Int32 → CS → Prop) (s0 : CS) (p0 : Int32) : Prop := (∃ fu : Nat, wX0_linesTo_4  post  fu p0 0 0 s0)
set_option maxHeartbeats 4000000 in
theorem kX0_linesTo_43 (hX : ∀ U, E U → EL U) {post : Int32 → CS → Prop} {k4 : Int32 → Int32 → Int32 → CS → Prop} (F : Fx p s m args meth c cX0_linesTo 4 RX0 (some .int) D d E A) (hk4 : ∀ (x1 : Int32) (x2 : Int32) (x3 : Int32) (st : CS) (H : Heap) (locs : List Loc) (ls : Array Slot), k4 x1 x2 x3 st → Cx D (wX o ad d) A s st H locs → lv_has ls 4 [(0, .ref o), (1, .int x1), (2, .int x2), (3, .int x3)] → W p l e (headSpec (ws_ yX0_linesTo cX0_linesTo 4 (some .int)) rmX0_linesTo).room s m args below meth c H locs 0 0 (QI below D d E (wX o ad d) A args s 0 0 post) (F0 m 4 ls [])) : ∀ (x1 : Int32) (x3 : Int32) (y0 : Int32) (y1 : Int32) (st : CS) (H : Heap) (locs : List Loc) (ls : Array Slot), wX0_linesTo_43  post k4 x1 x3 y0 y1 st → Cx D (wX o ad d) A s st H locs → lv_has ls 4 [(0, .ref o), (1, .int x1), (3, .int x3)] → W p l e (headSpec (ws_ yX0_linesTo cX0_linesTo 4 (some .int)) rmX0_linesTo).room s m args below meth c H locs 0 0 (QI below D d E (wX o ad d) A args s 0 0 post) (F0 m 43 ls [.int y0, .int y1]) := by
  obtain ⟨hx, hb, hr, hml, hown, hts, hlk, hA, hK, hE⟩ := id F
  intro x1 x3 y0 y1 st H locs ls hw C hl
  unfold wX0_linesTo_43 at hw
  refine lv_iadd hx hb dX0_linesTo_43 ?_
  refine lv_topi (fun x2_6 ex2_6 => ?_)
  have hw := hw x2_6 ex2_6
  refine lv_istore_n (lv' := [(2, .int x2_6), (0, .ref o), (1, .int x1), (3, .int x3)]) hx hb dX0_linesTo_44 rfl hl (by decide) rfl (fun ls hl => ?_)
  obtain ⟨x3_7, ex3_7⟩ : ∃ y : Int32, y = x3 + 1 := ⟨_, rfl⟩
  have hw := hw x3_7 ex3_7
  refine lv_iinc (v := x3_7) (lv' := [(3, .int x3_7), (2, .int x2_6), (0, .ref o), (1, .int x1)]) hx hb dX0_linesTo_45 hl (k := 3) rfl (by rw [ex3_7]; rfl) (by decide) rfl (fun ls hl => ?_)
  refine lv_goto (tgt := 4) hx hb dX0_linesTo_48 (by decide) ?_
  exact hk4 x1 x2_6 x3_7 st _ _ _ hw C (lv_sub hl [2, 3, 1, 0] rfl)
set_option maxHeartbeats 4000000 in
theorem kX0_linesTo_42 (hX : ∀ U, E U → EL U) {post : Int32 → CS → Prop} {k4 : Int32 → Int32 → Int32 → CS → Prop} (F : Fx p s m args meth c cX0_linesTo 4 RX0 (some .int) D d E A) (hk4 : ∀ (x1 : Int32) (x2 : Int32) (x3 : Int32) (st : CS) (H : Heap) (locs : List Loc) (ls : Array Slot), k4 x1 x2 x3 st → Cx D (wX o ad d) A s st H locs → lv_has ls 4 [(0, .ref o), (1, .int x1), (2, .int x2), (3, .int x3)] → W p l e (headSpec (ws_ yX0_linesTo cX0_linesTo 4 (some .int)) rmX0_linesTo).room s m args below meth c H locs 0 0 (QI below D d E (wX o ad d) A args s 0 0 post) (F0 m 4 ls [])) : ∀ (x1 : Int32) (x3 : Int32) (y0 : Int32) (st : CS) (H : Heap) (locs : List Loc) (ls : Array Slot), wX0_linesTo_42  post k4 x1 x3 y0 st → Cx D (wX o ad d) A s st H locs → lv_has ls 4 [(0, .ref o), (1, .int x1), (3, .int x3)] → W p l e (headSpec (ws_ yX0_linesTo cX0_linesTo 4 (some .int)) rmX0_linesTo).room s m args below meth c H locs 0 0 (QI below D d E (wX o ad d) A args s 0 0 post) (F0 m 42 ls [.int y0]) := by
  obtain ⟨hx, hb, hr, hml, hown, hts, hlk, hA, hK, hE⟩ := id F
  intro x1 x3 y0 st H locs ls hw C hl
  unfold wX0_linesTo_42 at hw
  refine lv_iconst (v := 0) hx hb dX0_linesTo_42 (by decide) ?_
  exact kX0_linesTo_43 hX F hk4 x1 x3 0 y0 st _ _ _ hw C hl
set_option maxHeartbeats 4000000 in
theorem kX0_linesTo_4 (hX : ∀ U, E U → EL U) {post : Int32 → CS → Prop}  (F : Fx p s m args meth c cX0_linesTo 4 RX0 (some .int) D d E A) : ∀ (fu : Nat) (x1 : Int32) (x2 : Int32) (x3 : Int32) (st : CS) (H : Heap) (locs : List Loc) (ls : Array Slot), wX0_linesTo_4  post  fu x1 x2 x3 st → Cx D (wX o ad d) A s st H locs → lv_has ls 4 [(0, .ref o), (1, .int x1), (2, .int x2), (3, .int x3)] → W p l e (headSpec (ws_ yX0_linesTo cX0_linesTo 4 (some .int)) rmX0_linesTo).room s m args below meth c H locs 0 0 (QI below D d E (wX o ad d) A args s 0 0 post) (F0 m 4 ls []) := by
  obtain ⟨hx, hb, hr, hml, hown, hts, hlk, hA, hK, hE⟩ := id F
  intro fu
  induction fu with
  | zero =>
    intro x1 x2 x3 st H locs ls hw
    exact hw.elim
  | succ n ih =>
    have hk4 := ih
    intro x1 x2 x3 st H locs ls hw C hl
    unfold wX0_linesTo_4 at hw
    refine lv_iload_n hx hb dX0_linesTo_4 rfl (lv_at hl 3 rfl) ?_
    refine lv_aload_n hx hb dX0_linesTo_5 rfl (lv_at hl 0 rfl) ?_
    refine x0_g11 F C dX0_linesTo_6 ?_
    refine lv_icmp_ge (tgt := 51) hx hb dX0_linesTo_9 (by decide) (fun c_1 => ?_) (fun c_1 => ?_)
    · have hw := hw.1 c_1
      refine lv_iload_n hx hb dX0_linesTo_51 rfl (lv_at hl 2 rfl) ?_
      exact x_iret F C hw dX0_linesTo_52
    · have hw := hw.2 c_1
      refine lv_iload_n hx hb dX0_linesTo_12 rfl (lv_at hl 2 rfl) ?_
      refine lv_aload_n hx hb dX0_linesTo_13 rfl (lv_at hl 0 rfl) ?_
      refine x0_g10 F C dX0_linesTo_14 ?_
      refine lv_iload_n hx hb dX0_linesTo_17 rfl (lv_at hl 3 rfl) ?_
      obtain ⟨h_2, a_3, ha_3, hw⟩ := hw
      refine x0_ldL F C h_2 ha_3 dX0_linesTo_18 ?_
      obtain ⟨h_4, hw⟩ := hw
      refine x0_gL2 F C h_4 dX0_linesTo_19 ?_
      refine lv_if_ne (tgt := 42) hx hb dX0_linesTo_22 (by decide) (fun c_5 => ?_) (fun c_5 => ?_)
      · have hw := hw.2 c_5
        exact kX0_linesTo_42 hX F hk4 x1 x3 x2 st _ _ _ hw C (lv_sub hl [0, 1, 3] rfl)
      · have hw := hw.1 c_5
        refine lv_aload_n hx hb dX0_linesTo_25 rfl (lv_at hl 0 rfl) ?_
        refine x0_g10 F C dX0_linesTo_26 ?_
        refine lv_iload_n hx hb dX0_linesTo_29 rfl (lv_at hl 3 rfl) ?_
        obtain ⟨h_8, a_9, ha_9, hw⟩ := hw
        refine x0_ldL F C h_8 ha_9 dX0_linesTo_30 ?_
        obtain ⟨h_10, hw⟩ := hw
        refine x0_gL1 F C h_10 dX0_linesTo_31 ?_
        refine lv_iload_n hx hb dX0_linesTo_34 rfl (lv_at hl 1 rfl) ?_
        refine lv_icmp_ne (tgt := 42) hx hb dX0_linesTo_35 (by decide) (fun c_11 => ?_) (fun c_11 => ?_)
        · have hw := hw.2 c_11
          exact kX0_linesTo_42 hX F hk4 x1 x3 x2 st _ _ _ hw C (lv_sub hl [0, 1, 3] rfl)
        · have hw := hw.1 c_11
          refine lv_iconst (v := 1) hx hb dX0_linesTo_38 (by decide) ?_
          refine lv_goto (tgt := 43) hx hb dX0_linesTo_39 (by decide) ?_
          exact kX0_linesTo_43 hX F hk4 x1 x3 1 x2 st _ _ _ hw C (lv_sub hl [0, 1, 3] rfl)
theorem ctX0_linesTo (hE : Em E) (hX : ∀ U, E U → EL U) {post : Int32 → CS → Prop} {s0 : CS} {p0 : Int32} (hw : wpX0_linesTo  post s0 p0) : CtI l yX0_linesTo (ws_ yX0_linesTo cX0_linesTo 4 (some .int)) rmX0_linesTo D d E (wX o ad d) 0 0 [.ref o, .int p0] s0 post := by
  refine CtI.of hE (by decide) rfl (Nat.le_of_ble_eq_true rfl) ?_
  intro p e s m below meth c A ls F C hl
  have hl : lv_has ls 4 [(0, .ref o), (1, .int p0)] := hl
  unfold wpX0_linesTo at hw
  obtain ⟨hx, hb, hr, hml, hown, hts, hlk, hA, hK, -⟩ := id F
  refine lv_iconst (v := 0) hx hb dX0_linesTo_0 (by decide) ?_
  refine lv_istore_n (lv' := [(2, .int 0), (0, .ref o), (1, .int p0)]) hx hb dX0_linesTo_1 rfl hl (by decide) rfl (fun ls hl => ?_)
  refine lv_iconst (v := 0) hx hb dX0_linesTo_2 (by decide) ?_
  refine lv_istore_n (lv' := [(3, .int 0), (2, .int 0), (0, .ref o), (1, .int p0)]) hx hb dX0_linesTo_3 rfl hl (by decide) rfl (fun ls hl => ?_)
  obtain ⟨fu, hw⟩ := hw
  exact kX0_linesTo_4 hX F  fu p0 0 0 s0 _ _ _ hw C (lv_sub hl [2, 3, 1, 0] rfl)

abbrev rmX0_told : Room := { frames := 2, cells := 0, slots := 0, locals := 43 }
def wX0_told_126  (post : Int32 → CS → Prop) (k84 : Int32 → Int32 → Int32 → CS → Prop) (x1 : Int32) (x4 : Int32) (y0 : Int32) (y1 : Int32) (st : CS) : Prop := (∀ x3_22 : Int32, x3_22 = (y1 + y0) → (∀ x4_23 : Int32, x4_23 = x4 + 1 → (k84 x1 x3_22 x4_23 st)))
def wX0_told_125  (post : Int32 → CS → Prop) (k84 : Int32 → Int32 → Int32 → CS → Prop) (x1 : Int32) (x4 : Int32) (y0 : Int32) (st : CS) : Prop := (wX0_told_126  post k84 x1 x4 0 y0 st)
def wX0_told_84  (post : Int32 → CS → Prop)  : Nat → Int32 → Int32 → Int32 → CS → Prop
  | 0 => fun _ _ _ _ => False
  | n + 1 => fun x1 x3 x4 st => (((sI st 11) ≤ x4 → (post x3 st)) ∧ (¬ (sI st 11) ≤ x4 → (vp_in x4 40 ∧ ∃ a_19 : Nat, sR st 10 x4.toNatClampNeg = some a_19 ∧ (okE st a_19 ∧ ((((sE st a_19).2.2 2) = 0 → (vp_in x4 40 ∧ ∃ a_25 : Nat, sR st 10 x4.toNatClampNeg = some a_25 ∧ (okE st a_25 ∧ ((((sE st a_25).2.2 0) = x1 → (wX0_told_126  post (wX0_told_84  post  n) x1 x4 1 x3 st)) ∧ (¬ ((sE st a_25).2.2 0) = x1 → (wX0_told_125  post (wX0_told_84  post  n) x1 x4 x3 st)))))) ∧ (¬ ((sE st a_19).2.2 2) = 0 → (wX0_told_125  post (wX0_told_84  post  n) x1 x4 x3 st)))))))
def wpX0_told  (post : Int32 → CS → Prop) (s0 : CS) (p0 : Int32) (p1 : Int32) : Prop := (wpX0_isPerson (fun r_2 s_1 => ((r_2 = 0 → (post (-1) s_1)) ∧ (¬ r_2 = 0 → (wpX0_in (fun r_5 s_4 => ((r_5 = 0 → (post (-1) s_4)) ∧ (¬ r_5 = 0 → (∀ v_7 : Int32, v_7 = p1 → ((v_7 = 0 → (vp_in p0 24 ∧ (post (sA s_4 7 p0.toNatClampNeg) s_4))) ∧ (¬ v_7 = 0 → ((v_7 = 1 → (vp_in p0 24 ∧ (post (sA s_4 8 p0.toNatClampNeg) s_4))) ∧ (¬ v_7 = 1 → ((v_7 = 2 → (vp_in p0 24 ∧ (post (sA s_4 9 p0.toNatClampNeg) s_4))) ∧ (¬ v_7 = 2 → ((v_7 = 3 → (wpX0_linesTo (fun r_16 s_15 => (post r_16 s_15)) s_4 p0)) ∧ (¬ v_7 = 3 → (∃ fu : Nat, wX0_told_84  post  fu p0 0 0 s_4))))))))))))) s_1 p1 0 4)))) s0 p0)
set_option maxHeartbeats 4000000 in
theorem kX0_told_126 (hX : ∀ U, E U → EL U) {post : Int32 → CS → Prop} {k84 : Int32 → Int32 → Int32 → CS → Prop} (F : Fx p s m args meth c cX0_told 5 RX0 (some .int) D d E A) (hk84 : ∀ (x1 : Int32) (x3 : Int32) (x4 : Int32) (st : CS) (H : Heap) (locs : List Loc) (ls : Array Slot), k84 x1 x3 x4 st → Cx D (wX o ad d) A s st H locs → lv_has ls 5 [(0, .ref o), (1, .int x1), (3, .int x3), (4, .int x4)] → W p l e (headSpec (ws_ yX0_told cX0_told 5 (some .int)) rmX0_told).room s m args below meth c H locs 0 0 (QI below D d E (wX o ad d) A args s 0 0 post) (F0 m 84 ls [])) : ∀ (x1 : Int32) (x4 : Int32) (y0 : Int32) (y1 : Int32) (st : CS) (H : Heap) (locs : List Loc) (ls : Array Slot), wX0_told_126  post k84 x1 x4 y0 y1 st → Cx D (wX o ad d) A s st H locs → lv_has ls 5 [(0, .ref o), (1, .int x1), (4, .int x4)] → W p l e (headSpec (ws_ yX0_told cX0_told 5 (some .int)) rmX0_told).room s m args below meth c H locs 0 0 (QI below D d E (wX o ad d) A args s 0 0 post) (F0 m 126 ls [.int y0, .int y1]) := by
  obtain ⟨hx, hb, hr, hml, hown, hts, hlk, hA, hK, hE⟩ := id F
  intro x1 x4 y0 y1 st H locs ls hw C hl
  unfold wX0_told_126 at hw
  refine lv_iadd hx hb dX0_told_126 ?_
  refine lv_topi (fun x3_22 ex3_22 => ?_)
  have hw := hw x3_22 ex3_22
  refine lv_istore_n (lv' := [(3, .int x3_22), (0, .ref o), (1, .int x1), (4, .int x4)]) hx hb dX0_told_127 rfl hl (by decide) rfl (fun ls hl => ?_)
  obtain ⟨x4_23, ex4_23⟩ : ∃ y : Int32, y = x4 + 1 := ⟨_, rfl⟩
  have hw := hw x4_23 ex4_23
  refine lv_iinc (v := x4_23) (lv' := [(4, .int x4_23), (3, .int x3_22), (0, .ref o), (1, .int x1)]) hx hb dX0_told_128 hl (k := 3) rfl (by rw [ex4_23]; rfl) (by decide) rfl (fun ls hl => ?_)
  refine lv_goto (tgt := 84) hx hb dX0_told_131 (by decide) ?_
  exact hk84 x1 x3_22 x4_23 st _ _ _ hw C (lv_sub hl [2, 3, 1, 0] rfl)
set_option maxHeartbeats 4000000 in
theorem kX0_told_125 (hX : ∀ U, E U → EL U) {post : Int32 → CS → Prop} {k84 : Int32 → Int32 → Int32 → CS → Prop} (F : Fx p s m args meth c cX0_told 5 RX0 (some .int) D d E A) (hk84 : ∀ (x1 : Int32) (x3 : Int32) (x4 : Int32) (st : CS) (H : Heap) (locs : List Loc) (ls : Array Slot), k84 x1 x3 x4 st → Cx D (wX o ad d) A s st H locs → lv_has ls 5 [(0, .ref o), (1, .int x1), (3, .int x3), (4, .int x4)] → W p l e (headSpec (ws_ yX0_told cX0_told 5 (some .int)) rmX0_told).room s m args below meth c H locs 0 0 (QI below D d E (wX o ad d) A args s 0 0 post) (F0 m 84 ls [])) : ∀ (x1 : Int32) (x4 : Int32) (y0 : Int32) (st : CS) (H : Heap) (locs : List Loc) (ls : Array Slot), wX0_told_125  post k84 x1 x4 y0 st → Cx D (wX o ad d) A s st H locs → lv_has ls 5 [(0, .ref o), (1, .int x1), (4, .int x4)] → W p l e (headSpec (ws_ yX0_told cX0_told 5 (some .int)) rmX0_told).room s m args below meth c H locs 0 0 (QI below D d E (wX o ad d) A args s 0 0 post) (F0 m 125 ls [.int y0]) := by
  obtain ⟨hx, hb, hr, hml, hown, hts, hlk, hA, hK, hE⟩ := id F
  intro x1 x4 y0 st H locs ls hw C hl
  unfold wX0_told_125 at hw
  refine lv_iconst (v := 0) hx hb dX0_told_125 (by decide) ?_
  exact kX0_told_126 hX F hk84 x1 x4 0 y0 st _ _ _ hw C hl
set_option maxHeartbeats 4000000 in
theorem kX0_told_84 (hX : ∀ U, E U → EL U) {post : Int32 → CS → Prop}  (F : Fx p s m args meth c cX0_told 5 RX0 (some .int) D d E A) : ∀ (fu : Nat) (x1 : Int32) (x3 : Int32) (x4 : Int32) (st : CS) (H : Heap) (locs : List Loc) (ls : Array Slot), wX0_told_84  post  fu x1 x3 x4 st → Cx D (wX o ad d) A s st H locs → lv_has ls 5 [(0, .ref o), (1, .int x1), (3, .int x3), (4, .int x4)] → W p l e (headSpec (ws_ yX0_told cX0_told 5 (some .int)) rmX0_told).room s m args below meth c H locs 0 0 (QI below D d E (wX o ad d) A args s 0 0 post) (F0 m 84 ls []) := by
  obtain ⟨hx, hb, hr, hml, hown, hts, hlk, hA, hK, hE⟩ := id F
  intro fu
  induction fu with
  | zero =>
    intro x1 x3 x4 st H locs ls hw
    exact hw.elim
  | succ n ih =>
    have hk84 := ih
    intro x1 x3 x4 st H locs ls hw C hl
    unfold wX0_told_84 at hw
    refine lv_iload hx hb dX0_told_84 (lv_at hl 3 rfl) ?_
    refine lv_aload_n hx hb dX0_told_86 rfl (lv_at hl 0 rfl) ?_
    refine x0_g11 F C dX0_told_87 ?_
    refine lv_icmp_ge (tgt := 134) hx hb dX0_told_90 (by decide) (fun c_17 => ?_) (fun c_17 => ?_)
    · have hw := hw.1 c_17
      refine lv_iload_n hx hb dX0_told_134 rfl (lv_at hl 2 rfl) ?_
      exact x_iret F C hw dX0_told_135
    · have hw := hw.2 c_17
      refine lv_iload_n hx hb dX0_told_93 rfl (lv_at hl 2 rfl) ?_
      refine lv_aload_n hx hb dX0_told_94 rfl (lv_at hl 0 rfl) ?_
      refine x0_g10 F C dX0_told_95 ?_
      refine lv_iload hx hb dX0_told_98 (lv_at hl 3 rfl) ?_
      obtain ⟨h_18, a_19, ha_19, hw⟩ := hw
      refine x0_ldL F C h_18 ha_19 dX0_told_100 ?_
      obtain ⟨h_20, hw⟩ := hw
      refine x0_gL2 F C h_20 dX0_told_101 ?_
      refine lv_if_ne (tgt := 125) hx hb dX0_told_104 (by decide) (fun c_21 => ?_) (fun c_21 => ?_)
      · have hw := hw.2 c_21
        exact kX0_told_125 hX F hk84 x1 x4 x3 st _ _ _ hw C (lv_sub hl [0, 1, 3] rfl)
      · have hw := hw.1 c_21
        refine lv_aload_n hx hb dX0_told_107 rfl (lv_at hl 0 rfl) ?_
        refine x0_g10 F C dX0_told_108 ?_
        refine lv_iload hx hb dX0_told_111 (lv_at hl 3 rfl) ?_
        obtain ⟨h_24, a_25, ha_25, hw⟩ := hw
        refine x0_ldL F C h_24 ha_25 dX0_told_113 ?_
        obtain ⟨h_26, hw⟩ := hw
        refine x0_gL0 F C h_26 dX0_told_114 ?_
        refine lv_iload_n hx hb dX0_told_117 rfl (lv_at hl 1 rfl) ?_
        refine lv_icmp_ne (tgt := 125) hx hb dX0_told_118 (by decide) (fun c_27 => ?_) (fun c_27 => ?_)
        · have hw := hw.2 c_27
          exact kX0_told_125 hX F hk84 x1 x4 x3 st _ _ _ hw C (lv_sub hl [0, 1, 3] rfl)
        · have hw := hw.1 c_27
          refine lv_iconst (v := 1) hx hb dX0_told_121 (by decide) ?_
          refine lv_goto (tgt := 126) hx hb dX0_told_122 (by decide) ?_
          exact kX0_told_126 hX F hk84 x1 x4 1 x3 st _ _ _ hw C (lv_sub hl [0, 1, 3] rfl)
theorem ctX0_told (hE : Em E) (hX : ∀ U, E U → EL U) {post : Int32 → CS → Prop} {s0 : CS} {p0 p1 : Int32} (hw : wpX0_told  post s0 p0 p1) : CtI l yX0_told (ws_ yX0_told cX0_told 5 (some .int)) rmX0_told D d E (wX o ad d) 0 0 [.ref o, .int p0, .int p1] s0 post := by
  refine CtI.of hE (by decide) rfl (Nat.le_of_ble_eq_true rfl) ?_
  intro p e s m below meth c A ls F C hl
  have hl : lv_has ls 5 [(0, .ref o), (1, .int p0), (2, .int p1)] := hl
  unfold wpX0_told at hw
  obtain ⟨hx, hb, hr, hml, hown, hts, hlk, hA, hK, -⟩ := id F
  refine lv_aload_n hx hb dX0_told_0 rfl (lv_at hl 0 rfl) ?_
  refine lv_iload_n hx hb dX0_told_1 rfl (lv_at hl 1 rfl) ?_
  refine x_callI (rest := []) (ci := 0) (q := (RX0, TX0, 41)) F C (ctX0_isPerson hE hX hw) (cwV 1 hts (lw_V q251 q253 qs0 q70 q254) rfl rfl rfl (by decide +kernel) ⟨Nat.le_of_ble_eq_true rfl, Nat.le_of_ble_eq_true rfl⟩) rfl rfl rfl hl.1 rfl (Nat.le_of_ble_eq_true rfl) dX0_told_2 ⟨Nat.zero_le _, Nat.zero_le _⟩ (fun r_2 s_1 H locs hw C => ?_)
  refine lv_if_eq (tgt := 17) hx hb dX0_told_5 (by decide) (fun c_3 => ?_) (fun c_3 => ?_)
  · have hw := hw.1 c_3
    refine lv_iconst (v := (-1)) hx hb dX0_told_17 (by decide) ?_
    exact x_iret F C hw dX0_told_18
  · have hw := hw.2 c_3
    refine lv_iload_n hx hb dX0_told_8 rfl (lv_at hl 2 rfl) ?_
    refine lv_iconst (v := 0) hx hb dX0_told_9 (by decide) ?_
    refine lv_iconst (v := 4) hx hb dX0_told_10 (by decide) ?_
    refine x_callSI (rest := []) F C (ctX0_in hE hw) (va_cwS 3 hts (lw_S q240 q241 q70 q242) rfl rfl rfl (by decide +kernel) ⟨Nat.le_of_ble_eq_true rfl, Nat.le_of_ble_eq_true rfl⟩) rfl hl.1 rfl (Nat.le_of_ble_eq_true rfl) dX0_told_11 ⟨Nat.zero_le _, Nat.zero_le _⟩ (fun r_5 s_4 H locs hw C => ?_)
    refine lv_if_ne (tgt := 19) hx hb dX0_told_14 (by decide) (fun c_6 => ?_) (fun c_6 => ?_)
    · have hw := hw.2 c_6
      refine lv_iload_n hx hb dX0_told_19 rfl (lv_at hl 2 rfl) ?_
      refine lv_topi (fun v_7 ev_7 => ?_)
      have hw := hw v_7 ev_7
      by_cases c_8 : v_7 = 0
      · have hw := hw.1 c_8
        refine lv_tableIn (tgt := 52) (off := 32) hx hb dX0_told_20 (by rw [c_8]; decide) (by rw [c_8]; decide) (by rw [c_8]; decide) (by decide) ?_
        refine lv_aload_n hx hb dX0_told_52 rfl (lv_at hl 0 rfl) ?_
        refine x0_g7 F C dX0_told_53 ?_
        refine lv_iload_n hx hb dX0_told_56 rfl (lv_at hl 1 rfl) ?_
        obtain ⟨h_9, hw⟩ := hw
        refine x0_ld7 F C h_9 dX0_told_57 ?_
        exact x_iret F C hw dX0_told_58
      · have hw := hw.2 c_8
        by_cases c_10 : v_7 = 1
        · have hw := hw.1 c_10
          refine lv_tableIn (tgt := 59) (off := 39) hx hb dX0_told_20 (by rw [c_10]; decide) (by rw [c_10]; decide) (by rw [c_10]; decide) (by decide) ?_
          refine lv_aload_n hx hb dX0_told_59 rfl (lv_at hl 0 rfl) ?_
          refine x0_g8 F C dX0_told_60 ?_
          refine lv_iload_n hx hb dX0_told_63 rfl (lv_at hl 1 rfl) ?_
          obtain ⟨h_11, hw⟩ := hw
          refine x0_ld8 F C h_11 dX0_told_64 ?_
          exact x_iret F C hw dX0_told_65
        · have hw := hw.2 c_10
          by_cases c_12 : v_7 = 2
          · have hw := hw.1 c_12
            refine lv_tableIn (tgt := 66) (off := 46) hx hb dX0_told_20 (by rw [c_12]; decide) (by rw [c_12]; decide) (by rw [c_12]; decide) (by decide) ?_
            refine lv_aload_n hx hb dX0_told_66 rfl (lv_at hl 0 rfl) ?_
            refine x0_g9 F C dX0_told_67 ?_
            refine lv_iload_n hx hb dX0_told_70 rfl (lv_at hl 1 rfl) ?_
            obtain ⟨h_13, hw⟩ := hw
            refine x0_ld9 F C h_13 dX0_told_71 ?_
            exact x_iret F C hw dX0_told_72
          · have hw := hw.2 c_12
            by_cases c_14 : v_7 = 3
            · have hw := hw.1 c_14
              refine lv_tableIn (tgt := 73) (off := 53) hx hb dX0_told_20 (by rw [c_14]; decide) (by rw [c_14]; decide) (by rw [c_14]; decide) (by decide) ?_
              refine lv_aload_n hx hb dX0_told_73 rfl (lv_at hl 0 rfl) ?_
              refine lv_iload_n hx hb dX0_told_74 rfl (lv_at hl 1 rfl) ?_
              refine x_callI (rest := []) (ci := 0) (q := (RX0, TX0, 41)) F C (ctX0_linesTo hE hX hw) (cwV 1 hts (lw_V q255 q257 qs1 q70 q258) rfl rfl rfl (by decide +kernel) ⟨Nat.le_of_ble_eq_true rfl, Nat.le_of_ble_eq_true rfl⟩) rfl rfl rfl hl.1 rfl (Nat.le_of_ble_eq_true rfl) dX0_told_75 ⟨Nat.zero_le _, Nat.zero_le _⟩ (fun r_16 s_15 H locs hw C => ?_)
              exact x_iret F C hw dX0_told_78
            · have hw := hw.2 c_14
              have hz_28 : v_7.toInt ≠ 0 := fun h9 => c_8 (Int32.toInt_inj.mp (h9.trans (by decide)))
              have hz_29 : v_7.toInt ≠ 1 := fun h9 => c_10 (Int32.toInt_inj.mp (h9.trans (by decide)))
              have hz_30 : v_7.toInt ≠ 2 := fun h9 => c_12 (Int32.toInt_inj.mp (h9.trans (by decide)))
              have hz_31 : v_7.toInt ≠ 3 := fun h9 => c_14 (Int32.toInt_inj.mp (h9.trans (by decide)))
              refine lv_tableOut (tgt := 79) hx hb dX0_told_20 (by omega) (by decide) ?_
              refine lv_iconst (v := 0) hx hb dX0_told_79 (by decide) ?_
              refine lv_istore_n (lv' := [(3, .int 0), (0, .ref o), (1, .int p0), (2, .int p1)]) hx hb dX0_told_80 rfl hl (by decide) rfl (fun ls hl => ?_)
              refine lv_iconst (v := 0) hx hb dX0_told_81 (by decide) ?_
              refine lv_istore (lv' := [(4, .int 0), (3, .int 0), (0, .ref o), (1, .int p0), (2, .int p1)]) hx hb dX0_told_82 hl (by decide) rfl (fun ls hl => ?_)
              obtain ⟨fu, hw⟩ := hw
              exact kX0_told_84 hX F  fu p0 0 0 s_4 _ _ _ hw C (lv_sub hl [2, 3, 1, 0] rfl)
    · have hw := hw.1 c_6
      refine lv_iconst (v := (-1)) hx hb dX0_told_17 (by decide) ?_
      exact x_iret F C hw dX0_told_18

abbrev rmX0_die : Room := { frames := 2, cells := 0, slots := 0, locals := 43 }
def wpX0_die  (post : Int32 → CS → Prop) (s0 : CS) (p0 : Int32) (p1 : Int32) : Prop := (wpX0_isPerson (fun r_2 s_1 => ((r_2 = 0 → (post (-1) s_1)) ∧ (¬ r_2 = 0 → (vp_in p0 24 ∧ (wpX0_in (fun r_6 s_5 => ((r_6 = 0 → (post (-1) s_5)) ∧ (¬ r_6 = 0 → (vp_in p0 24 ∧ (((sA s_5 9 p0.toNatClampNeg) = (-9) → (vp_in p0 24 ∧ ∀ s_11 : CS, s_11 = uA s_5 9 p0.toNatClampNeg p1 → (post 1 s_11))) ∧ (¬ (sA s_5 9 p0.toNatClampNeg) = (-9) → (post (-4) s_5))))))) s_1 p1 (sA s_1 8 p0.toNatClampNeg) 100000))))) s0 p0)
theorem ctX0_die (hE : Em E) (hX : ∀ U, E U → EL U) {post : Int32 → CS → Prop} {s0 : CS} {p0 p1 : Int32} (hw : wpX0_die  post s0 p0 p1) : CtI l yX0_die (ws_ yX0_die cX0_die 3 (some .int)) rmX0_die D d E (wX o ad d) 0 0 [.ref o, .int p0, .int p1] s0 post := by
  refine CtI.of hE (by decide) rfl (Nat.le_of_ble_eq_true rfl) ?_
  intro p e s m below meth c A ls F C hl
  have hl : lv_has ls 3 [(0, .ref o), (1, .int p0), (2, .int p1)] := hl
  unfold wpX0_die at hw
  obtain ⟨hx, hb, hr, hml, hown, hts, hlk, hA, hK, -⟩ := id F
  refine lv_aload_n hx hb dX0_die_0 rfl (lv_at hl 0 rfl) ?_
  refine lv_iload_n hx hb dX0_die_1 rfl (lv_at hl 1 rfl) ?_
  refine x_callI (rest := []) (ci := 0) (q := (RX0, TX0, 41)) F C (ctX0_isPerson hE hX hw) (cwV 1 hts (lw_V q251 q253 qs0 q70 q254) rfl rfl rfl (by decide +kernel) ⟨Nat.le_of_ble_eq_true rfl, Nat.le_of_ble_eq_true rfl⟩) rfl rfl rfl hl.1 rfl (Nat.le_of_ble_eq_true rfl) dX0_die_2 ⟨Nat.zero_le _, Nat.zero_le _⟩ (fun r_2 s_1 H locs hw C => ?_)
  refine lv_if_eq (tgt := 23) hx hb dX0_die_5 (by decide) (fun c_3 => ?_) (fun c_3 => ?_)
  · have hw := hw.1 c_3
    refine lv_iconst (v := (-1)) hx hb dX0_die_23 (by decide) ?_
    exact x_iret F C hw dX0_die_24
  · have hw := hw.2 c_3
    refine lv_iload_n hx hb dX0_die_8 rfl (lv_at hl 2 rfl) ?_
    refine lv_aload_n hx hb dX0_die_9 rfl (lv_at hl 0 rfl) ?_
    refine x0_g8 F C dX0_die_10 ?_
    refine lv_iload_n hx hb dX0_die_13 rfl (lv_at hl 1 rfl) ?_
    obtain ⟨h_4, hw⟩ := hw
    refine x0_ld8 F C h_4 dX0_die_14 ?_
    refine lv_ldc hx hb hown (hts _ q246) dX0_die_15 ?_
    refine x_callSI (rest := []) F C (ctX0_in hE hw) (va_cwS 3 hts (lw_S q240 q241 q70 q242) rfl rfl rfl (by decide +kernel) ⟨Nat.le_of_ble_eq_true rfl, Nat.le_of_ble_eq_true rfl⟩) rfl hl.1 rfl (Nat.le_of_ble_eq_true rfl) dX0_die_17 ⟨Nat.zero_le _, Nat.zero_le _⟩ (fun r_6 s_5 H locs hw C => ?_)
    refine lv_if_ne (tgt := 25) hx hb dX0_die_20 (by decide) (fun c_7 => ?_) (fun c_7 => ?_)
    · have hw := hw.2 c_7
      refine lv_aload_n hx hb dX0_die_25 rfl (lv_at hl 0 rfl) ?_
      refine x0_g9 F C dX0_die_26 ?_
      refine lv_iload_n hx hb dX0_die_29 rfl (lv_at hl 1 rfl) ?_
      obtain ⟨h_8, hw⟩ := hw
      refine x0_ld9 F C h_8 dX0_die_30 ?_
      refine lv_bipush (v := (-9)) hx hb dX0_die_31 (by decide) ?_
      refine lv_icmp_eq (tgt := 39) hx hb dX0_die_33 (by decide) (fun c_9 => ?_) (fun c_9 => ?_)
      · have hw := hw.1 c_9
        refine lv_aload_n hx hb dX0_die_39 rfl (lv_at hl 0 rfl) ?_
        refine x0_g9 F C dX0_die_40 ?_
        refine lv_iload_n hx hb dX0_die_43 rfl (lv_at hl 1 rfl) ?_
        refine lv_iload_n hx hb dX0_die_44 rfl (lv_at hl 2 rfl) ?_
        obtain ⟨h_10, hw⟩ := hw
        refine x0_st9 F C h_10 dX0_die_45 (fun H locs s_11 es_11 C => ?_)
        have hw := hw s_11 es_11
        refine lv_iconst (v := 1) hx hb dX0_die_46 (by decide) ?_
        exact x_iret F C hw dX0_die_47
      · have hw := hw.2 c_9
        refine lv_bipush (v := (-4)) hx hb dX0_die_36 (by decide) ?_
        exact x_iret F C hw dX0_die_38
    · have hw := hw.1 c_7
      refine lv_iconst (v := (-1)) hx hb dX0_die_23 (by decide) ?_
      exact x_iret F C hw dX0_die_24

abbrev rmX0_hasLine : Room := { frames := 0, cells := 0, slots := 0, locals := 0 }
def wX0_hasLine_61  (post : Int32 → CS → Prop) (k5 : Int32 → Int32 → Int32 → Int32 → CS → Prop) (x1 : Int32) (x2 : Int32) (x4 : Int32) (y0 : Int32) (y1 : Int32) (st : CS) : Prop := (∀ x3_6 : Int32, x3_6 = (y1 ||| y0) → (∀ x4_7 : Int32, x4_7 = x4 + 1 → (k5 x1 x2 x3_6 x4_7 st)))
def wX0_hasLine_60  (post : Int32 → CS → Prop) (k5 : Int32 → Int32 → Int32 → Int32 → CS → Prop) (x1 : Int32) (x2 : Int32) (x4 : Int32) (y0 : Int32) (st : CS) : Prop := (wX0_hasLine_61  post k5 x1 x2 x4 0 y0 st)
def wX0_hasLine_5  (post : Int32 → CS → Prop)  : Nat → Int32 → Int32 → Int32 → Int32 → CS → Prop
  | 0 => fun _ _ _ _ _ => False
  | n + 1 => fun x1 x2 x3 x4 st => (((sI st 11) ≤ x4 → (zb x3 ∧ post x3 st)) ∧ (¬ (sI st 11) ≤ x4 → (vp_in x4 40 ∧ ∃ a_3 : Nat, sR st 10 x4.toNatClampNeg = some a_3 ∧ (okE st a_3 ∧ ((((sE st a_3).2.2 2) = 0 → (vp_in x4 40 ∧ ∃ a_9 : Nat, sR st 10 x4.toNatClampNeg = some a_9 ∧ (okE st a_9 ∧ ((((sE st a_9).2.2 0) = x1 → (vp_in x4 40 ∧ ∃ a_13 : Nat, sR st 10 x4.toNatClampNeg = some a_13 ∧ (okE st a_13 ∧ ((((sE st a_13).2.2 1) = x2 → (wX0_hasLine_61  post (wX0_hasLine_5  post  n) x1 x2 x4 1 x3 st)) ∧ (¬ ((sE st a_13).2.2 1) = x2 → (wX0_hasLine_60  post (wX0_hasLine_5  post  n) x1 x2 x4 x3 st)))))) ∧ (¬ ((sE st a_9).2.2 0) = x1 → (wX0_hasLine_60  post (wX0_hasLine_5  post  n) x1 x2 x4 x3 st)))))) ∧ (¬ ((sE st a_3).2.2 2) = 0 → (wX0_hasLine_60  post (wX0_hasLine_5  post  n) x1 x2 x4 x3 st)))))))
def wpX0_hasLine  (post : Int32 → CS → Prop) (s0 : CS) (p0 : Int32) (p1 : Int32) : Prop := (∃ fu : Nat, wX0_hasLine_5  post  fu p0 p1 0 0 s0)
set_option maxHeartbeats 4000000 in
theorem kX0_hasLine_61 (hX : ∀ U, E U → EL U) {post : Int32 → CS → Prop} {k5 : Int32 → Int32 → Int32 → Int32 → CS → Prop} (F : Fx p s m args meth c cX0_hasLine 5 RX0 (some .boolean) D d E A) (hk5 : ∀ (x1 : Int32) (x2 : Int32) (x3 : Int32) (x4 : Int32) (st : CS) (H : Heap) (locs : List Loc) (ls : Array Slot), k5 x1 x2 x3 x4 st → Cx D (wX o ad d) A s st H locs → lv_has ls 5 [(0, .ref o), (1, .int x1), (2, .int x2), (3, .int x3), (4, .int x4)] → W p l e (headSpec (ws_ yX0_hasLine cX0_hasLine 5 (some .boolean)) rmX0_hasLine).room s m args below meth c H locs 0 0 (QI below D d E (wX o ad d) A args s 0 0 post) (F0 m 5 ls [])) : ∀ (x1 : Int32) (x2 : Int32) (x4 : Int32) (y0 : Int32) (y1 : Int32) (st : CS) (H : Heap) (locs : List Loc) (ls : Array Slot), wX0_hasLine_61  post k5 x1 x2 x4 y0 y1 st → Cx D (wX o ad d) A s st H locs → lv_has ls 5 [(0, .ref o), (1, .int x1), (2, .int x2), (4, .int x4)] → W p l e (headSpec (ws_ yX0_hasLine cX0_hasLine 5 (some .boolean)) rmX0_hasLine).room s m args below meth c H locs 0 0 (QI below D d E (wX o ad d) A args s 0 0 post) (F0 m 61 ls [.int y0, .int y1]) := by
  obtain ⟨hx, hb, hr, hml, hown, hts, hlk, hA, hK, hE⟩ := id F
  intro x1 x2 x4 y0 y1 st H locs ls hw C hl
  unfold wX0_hasLine_61 at hw
  refine lv_ior hx hb dX0_hasLine_61 ?_
  refine lv_topi (fun x3_6 ex3_6 => ?_)
  have hw := hw x3_6 ex3_6
  refine lv_istore_n (lv' := [(3, .int x3_6), (0, .ref o), (1, .int x1), (2, .int x2), (4, .int x4)]) hx hb dX0_hasLine_62 rfl hl (by decide) rfl (fun ls hl => ?_)
  obtain ⟨x4_7, ex4_7⟩ : ∃ y : Int32, y = x4 + 1 := ⟨_, rfl⟩
  have hw := hw x4_7 ex4_7
  refine lv_iinc (v := x4_7) (lv' := [(4, .int x4_7), (3, .int x3_6), (0, .ref o), (1, .int x1), (2, .int x2)]) hx hb dX0_hasLine_63 hl (k := 4) rfl (by rw [ex4_7]; rfl) (by decide) rfl (fun ls hl => ?_)
  refine lv_goto (tgt := 5) hx hb dX0_hasLine_66 (by decide) ?_
  exact hk5 x1 x2 x3_6 x4_7 st _ _ _ hw C (lv_sub hl [2, 3, 4, 1, 0] rfl)
set_option maxHeartbeats 4000000 in
theorem kX0_hasLine_60 (hX : ∀ U, E U → EL U) {post : Int32 → CS → Prop} {k5 : Int32 → Int32 → Int32 → Int32 → CS → Prop} (F : Fx p s m args meth c cX0_hasLine 5 RX0 (some .boolean) D d E A) (hk5 : ∀ (x1 : Int32) (x2 : Int32) (x3 : Int32) (x4 : Int32) (st : CS) (H : Heap) (locs : List Loc) (ls : Array Slot), k5 x1 x2 x3 x4 st → Cx D (wX o ad d) A s st H locs → lv_has ls 5 [(0, .ref o), (1, .int x1), (2, .int x2), (3, .int x3), (4, .int x4)] → W p l e (headSpec (ws_ yX0_hasLine cX0_hasLine 5 (some .boolean)) rmX0_hasLine).room s m args below meth c H locs 0 0 (QI below D d E (wX o ad d) A args s 0 0 post) (F0 m 5 ls [])) : ∀ (x1 : Int32) (x2 : Int32) (x4 : Int32) (y0 : Int32) (st : CS) (H : Heap) (locs : List Loc) (ls : Array Slot), wX0_hasLine_60  post k5 x1 x2 x4 y0 st → Cx D (wX o ad d) A s st H locs → lv_has ls 5 [(0, .ref o), (1, .int x1), (2, .int x2), (4, .int x4)] → W p l e (headSpec (ws_ yX0_hasLine cX0_hasLine 5 (some .boolean)) rmX0_hasLine).room s m args below meth c H locs 0 0 (QI below D d E (wX o ad d) A args s 0 0 post) (F0 m 60 ls [.int y0]) := by
  obtain ⟨hx, hb, hr, hml, hown, hts, hlk, hA, hK, hE⟩ := id F
  intro x1 x2 x4 y0 st H locs ls hw C hl
  unfold wX0_hasLine_60 at hw
  refine lv_iconst (v := 0) hx hb dX0_hasLine_60 (by decide) ?_
  exact kX0_hasLine_61 hX F hk5 x1 x2 x4 0 y0 st _ _ _ hw C hl
set_option maxHeartbeats 4000000 in
theorem kX0_hasLine_5 (hX : ∀ U, E U → EL U) {post : Int32 → CS → Prop}  (F : Fx p s m args meth c cX0_hasLine 5 RX0 (some .boolean) D d E A) : ∀ (fu : Nat) (x1 : Int32) (x2 : Int32) (x3 : Int32) (x4 : Int32) (st : CS) (H : Heap) (locs : List Loc) (ls : Array Slot), wX0_hasLine_5  post  fu x1 x2 x3 x4 st → Cx D (wX o ad d) A s st H locs → lv_has ls 5 [(0, .ref o), (1, .int x1), (2, .int x2), (3, .int x3), (4, .int x4)] → W p l e (headSpec (ws_ yX0_hasLine cX0_hasLine 5 (some .boolean)) rmX0_hasLine).room s m args below meth c H locs 0 0 (QI below D d E (wX o ad d) A args s 0 0 post) (F0 m 5 ls []) := by
  obtain ⟨hx, hb, hr, hml, hown, hts, hlk, hA, hK, hE⟩ := id F
  intro fu
  induction fu with
  | zero =>
    intro x1 x2 x3 x4 st H locs ls hw
    exact hw.elim
  | succ n ih =>
    have hk5 := ih
    intro x1 x2 x3 x4 st H locs ls hw C hl
    unfold wX0_hasLine_5 at hw
    refine lv_iload hx hb dX0_hasLine_5 (lv_at hl 4 rfl) ?_
    refine lv_aload_n hx hb dX0_hasLine_7 rfl (lv_at hl 0 rfl) ?_
    refine x0_g11 F C dX0_hasLine_8 ?_
    refine lv_icmp_ge (tgt := 69) hx hb dX0_hasLine_11 (by decide) (fun c_1 => ?_) (fun c_1 => ?_)
    · have hw := hw.1 c_1
      refine lv_iload_n hx hb dX0_hasLine_69 rfl (lv_at hl 3 rfl) ?_
      exact x_zret F C hw.1 hw.2 dX0_hasLine_70
    · have hw := hw.2 c_1
      refine lv_iload_n hx hb dX0_hasLine_14 rfl (lv_at hl 3 rfl) ?_
      refine lv_aload_n hx hb dX0_hasLine_15 rfl (lv_at hl 0 rfl) ?_
      refine x0_g10 F C dX0_hasLine_16 ?_
      refine lv_iload hx hb dX0_hasLine_19 (lv_at hl 4 rfl) ?_
      obtain ⟨h_2, a_3, ha_3, hw⟩ := hw
      refine x0_ldL F C h_2 ha_3 dX0_hasLine_21 ?_
      obtain ⟨h_4, hw⟩ := hw
      refine x0_gL2 F C h_4 dX0_hasLine_22 ?_
      refine lv_if_ne (tgt := 60) hx hb dX0_hasLine_25 (by decide) (fun c_5 => ?_) (fun c_5 => ?_)
      · have hw := hw.2 c_5
        exact kX0_hasLine_60 hX F hk5 x1 x2 x4 x3 st _ _ _ hw C (lv_sub hl [0, 1, 2, 4] rfl)
      · have hw := hw.1 c_5
        refine lv_aload_n hx hb dX0_hasLine_28 rfl (lv_at hl 0 rfl) ?_
        refine x0_g10 F C dX0_hasLine_29 ?_
        refine lv_iload hx hb dX0_hasLine_32 (lv_at hl 4 rfl) ?_
        obtain ⟨h_8, a_9, ha_9, hw⟩ := hw
        refine x0_ldL F C h_8 ha_9 dX0_hasLine_34 ?_
        obtain ⟨h_10, hw⟩ := hw
        refine x0_gL0 F C h_10 dX0_hasLine_35 ?_
        refine lv_iload_n hx hb dX0_hasLine_38 rfl (lv_at hl 1 rfl) ?_
        refine lv_icmp_ne (tgt := 60) hx hb dX0_hasLine_39 (by decide) (fun c_11 => ?_) (fun c_11 => ?_)
        · have hw := hw.2 c_11
          exact kX0_hasLine_60 hX F hk5 x1 x2 x4 x3 st _ _ _ hw C (lv_sub hl [0, 1, 2, 4] rfl)
        · have hw := hw.1 c_11
          refine lv_aload_n hx hb dX0_hasLine_42 rfl (lv_at hl 0 rfl) ?_
          refine x0_g10 F C dX0_hasLine_43 ?_
          refine lv_iload hx hb dX0_hasLine_46 (lv_at hl 4 rfl) ?_
          obtain ⟨h_12, a_13, ha_13, hw⟩ := hw
          refine x0_ldL F C h_12 ha_13 dX0_hasLine_48 ?_
          obtain ⟨h_14, hw⟩ := hw
          refine x0_gL1 F C h_14 dX0_hasLine_49 ?_
          refine lv_iload_n hx hb dX0_hasLine_52 rfl (lv_at hl 2 rfl) ?_
          refine lv_icmp_ne (tgt := 60) hx hb dX0_hasLine_53 (by decide) (fun c_15 => ?_) (fun c_15 => ?_)
          · have hw := hw.2 c_15
            exact kX0_hasLine_60 hX F hk5 x1 x2 x4 x3 st _ _ _ hw C (lv_sub hl [0, 1, 2, 4] rfl)
          · have hw := hw.1 c_15
            refine lv_iconst (v := 1) hx hb dX0_hasLine_56 (by decide) ?_
            refine lv_goto (tgt := 61) hx hb dX0_hasLine_57 (by decide) ?_
            exact kX0_hasLine_61 hX F hk5 x1 x2 x4 1 x3 st _ _ _ hw C (lv_sub hl [0, 1, 2, 4] rfl)
theorem ctX0_hasLine (hE : Em E) (hX : ∀ U, E U → EL U) {post : Int32 → CS → Prop} {s0 : CS} {p0 p1 : Int32} (hw : wpX0_hasLine  post s0 p0 p1) : CtI l yX0_hasLine (ws_ yX0_hasLine cX0_hasLine 5 (some .boolean)) rmX0_hasLine D d E (wX o ad d) 0 0 [.ref o, .int p0, .int p1] s0 post := by
  refine CtI.of hE (by decide) rfl (Nat.le_of_ble_eq_true rfl) ?_
  intro p e s m below meth c A ls F C hl
  have hl : lv_has ls 5 [(0, .ref o), (1, .int p0), (2, .int p1)] := hl
  unfold wpX0_hasLine at hw
  obtain ⟨hx, hb, hr, hml, hown, hts, hlk, hA, hK, -⟩ := id F
  refine lv_iconst (v := 0) hx hb dX0_hasLine_0 (by decide) ?_
  refine lv_istore_n (lv' := [(3, .int 0), (0, .ref o), (1, .int p0), (2, .int p1)]) hx hb dX0_hasLine_1 rfl hl (by decide) rfl (fun ls hl => ?_)
  refine lv_iconst (v := 0) hx hb dX0_hasLine_2 (by decide) ?_
  refine lv_istore (lv' := [(4, .int 0), (3, .int 0), (0, .ref o), (1, .int p0), (2, .int p1)]) hx hb dX0_hasLine_3 hl (by decide) rfl (fun ls hl => ?_)
  obtain ⟨fu, hw⟩ := hw
  exact kX0_hasLine_5 hX F  fu p0 p1 0 0 s0 _ _ _ hw C (lv_sub hl [2, 3, 4, 1, 0] rfl)

abbrev rmX0_line : Room := { frames := 3, cells := 1, slots := 6, locals := 59 }
def wX0_line_169  (post : Int32 → CS → Prop)  (y0 : Nat) (y1 : Int32) (st : CS) : Prop := (okE st y0 ∧ vp_in y1 40 ∧ ∀ s_26 : CS, s_26 = uR st 10 y1.toNatClampNeg (some y0) → (∀ s_27 : CS, s_27 = uI s_26 11 ((sI s_26 11) + 1) → (post ((sI s_27 11) - 1) s_27)))
def wX0_line_39  (post : Int32 → CS → Prop)  (x1 : Int32) (x2 : Int32) (x3 : Int32) (x4 : Int32) (x5 : Int32) (y0 : Int32) (st : CS) : Prop := ((y0 = 0 → (post (-1) st)) ∧ (¬ y0 = 0 → (wpX0_isPerson (fun r_4 s_3 => ((r_4 = 0 → (post (-1) s_3)) ∧ (¬ r_4 = 0 → (wpX0_isPerson (fun r_7 s_6 => ((r_7 = 0 → (post (-1) s_6)) ∧ (¬ r_7 = 0 → (vp_in x2 24 ∧ (vp_in x3 24 ∧ (((sA s_6 8 x2.toNatClampNeg) < (sA s_6 8 x3.toNatClampNeg) → (((sI s_6 11) = 40 → (post (-2) s_6)) ∧ (¬ (sI s_6 11) = 40 → (wpX0_hasLine (fun r_14 s_13 => ((r_14 = 0 → (wpX0_linesTo (fun r_17 s_16 => ((r_17 = 2 → (post (-4) s_16)) ∧ (¬ r_17 = 2 → ((x1 = 0 → (∀ (q_31 : Nat) (s_32 : CS), q_31 ∉ sP s_16 → s_32 = uN s_16 q_31 (1, 0, fun _ => 0) → (wpX2_init_c1 (fun s_33 => (wX0_line_169  post  q_31 (sI s_16 11) s_33)) s_32 q_31 x2 x3))) ∧ (¬ x1 = 0 → ((x1 = 1 → (∀ (q_28 : Nat) (s_29 : CS), q_28 ∉ sP s_16 → s_29 = uN s_16 q_28 (2, 0, fun _ => 0) → (wpX3_init_c2 (fun s_30 => (wX0_line_169  post  q_28 (sI s_16 11) s_30)) s_29 q_28 x2 x3 x5))) ∧ (¬ x1 = 1 → (∀ (q_21 : Nat) (s_22 : CS), q_21 ∉ sP s_16 → s_22 = uN s_16 q_21 (3, 0, fun _ => 0) → (wpX4_init_c3 (fun s_23 => (wX0_line_169  post  q_21 (sI s_16 11) s_23)) s_22 q_21 x2 x3 x4))))))))) s_13 x3)) ∧ (¬ r_14 = 0 → (post (-4) s_13)))) s_6 x2 x3)))) ∧ (¬ (sA s_6 8 x2.toNatClampNeg) < (sA s_6 8 x3.toNatClampNeg) → (post (-1) s_6)))))))) s_3 x3)))) st x2)))
def wX0_line_34  (post : Int32 → CS → Prop)  (x1 : Int32) (x2 : Int32) (x3 : Int32) (x4 : Int32) (x5 : Int32) (st : CS) : Prop := (wX0_line_39  post  x1 x2 x3 x4 x5 1 st)
def wX0_line_38  (post : Int32 → CS → Prop)  (x1 : Int32) (x2 : Int32) (x3 : Int32) (x4 : Int32) (x5 : Int32) (st : CS) : Prop := (wX0_line_39  post  x1 x2 x3 x4 x5 0 st)
def wX0_line_21  (post : Int32 → CS → Prop)  (x1 : Int32) (x2 : Int32) (x3 : Int32) (x4 : Int32) (x5 : Int32) (st : CS) : Prop := ((x1 = 3 → (wpX0_isDay (fun r_37 s_36 => ((r_37 = 0 → (wX0_line_38  post  x1 x2 x3 x4 x5 s_36)) ∧ (¬ r_37 = 0 → (wX0_line_34  post  x1 x2 x3 x4 x5 s_36)))) st x4)) ∧ (¬ x1 = 3 → (wX0_line_38  post  x1 x2 x3 x4 x5 st)))
def wpX0_line  (post : Int32 → CS → Prop) (s0 : CS) (p0 : Int32) (p1 : Int32) (p2 : Int32) (p3 : Int32) (p4 : Int32) : Prop := ((p0 = 0 → (wX0_line_34  post  p0 p1 p2 p3 p4 s0)) ∧ (¬ p0 = 0 → ((p0 = 1 → (wpX0_in (fun r_40 s_39 => ((r_40 = 0 → (wX0_line_21  post  p0 p1 p2 p3 p4 s_39)) ∧ (¬ r_40 = 0 → (wX0_line_34  post  p0 p1 p2 p3 p4 s_39)))) s0 p4 1 1000)) ∧ (¬ p0 = 1 → (wX0_line_21  post  p0 p1 p2 p3 p4 s0)))))
set_option maxHeartbeats 4000000 in
theorem kX0_line_169 (hX : ∀ U, E U → EL U) {post : Int32 → CS → Prop}  (F : Fx p s m args meth c cX0_line 7 RX0 (some .int) D d E A) : ∀ (y0 : Nat) (y1 : Int32) (st : CS) (H : Heap) (locs : List Loc) (ls : Array Slot), wX0_line_169  post  y0 y1 st → Cx D (wX o ad d) A s st H locs → lv_has ls 7 [(0, .ref o)] → W p l e (headSpec (ws_ yX0_line cX0_line 7 (some .int)) rmX0_line).room s m args below meth c H locs 1 6 (QI below D d E (wX o ad d) A args s 1 6 post) (F0 m 169 ls [.ref y0, .int y1, .ref (ad 10)]) := by
  obtain ⟨hx, hb, hr, hml, hown, hts, hlk, hA, hK, hE⟩ := id F
  intro y0 y1 st H locs ls hw C hl
  unfold wX0_line_169 at hw
  obtain ⟨h_24, h_25, hw⟩ := hw
  refine x0_stL hX F C h_24 h_25 dX0_line_169 (fun H locs s_26 es_26 C => ?_)
  have hw := hw s_26 es_26
  refine lv_aload_n hx hb dX0_line_170 rfl (lv_at hl 0 rfl) ?_
  refine lv_dup hx hb dX0_line_171 rfl ?_
  refine x0_g11 F C dX0_line_172 ?_
  refine lv_iconst (v := 1) hx hb dX0_line_175 (by decide) ?_
  refine lv_iadd hx hb dX0_line_176 ?_
  refine x0_p11 F C dX0_line_177 (fun H locs s_27 es_27 C => ?_)
  have hw := hw s_27 es_27
  refine lv_aload_n hx hb dX0_line_180 rfl (lv_at hl 0 rfl) ?_
  refine x0_g11 F C dX0_line_181 ?_
  refine lv_iconst (v := 1) hx hb dX0_line_184 (by decide) ?_
  refine lv_isub hx hb dX0_line_185 ?_
  exact x_iret F C hw dX0_line_186
set_option maxHeartbeats 4000000 in
theorem kX0_line_39 (hX : ∀ U, E U → EL U) {post : Int32 → CS → Prop}  (F : Fx p s m args meth c cX0_line 7 RX0 (some .int) D d E A) : ∀ (x1 : Int32) (x2 : Int32) (x3 : Int32) (x4 : Int32) (x5 : Int32) (y0 : Int32) (st : CS) (H : Heap) (locs : List Loc) (ls : Array Slot), wX0_line_39  post  x1 x2 x3 x4 x5 y0 st → Cx D (wX o ad d) A s st H locs → lv_has ls 7 [(0, .ref o), (1, .int x1), (2, .int x2), (3, .int x3), (4, .int x4), (5, .int x5)] → W p l e (headSpec (ws_ yX0_line cX0_line 7 (some .int)) rmX0_line).room s m args below meth c H locs 0 0 (QI below D d E (wX o ad d) A args s 1 6 post) (F0 m 39 ls [.int y0]) := by
  obtain ⟨hx, hb, hr, hml, hown, hts, hlk, hA, hK, hE⟩ := id F
  intro x1 x2 x3 x4 x5 y0 st H locs ls hw C hl
  unfold wX0_line_39 at hw
  refine lv_istore (lv' := [(6, .int y0), (0, .ref o), (1, .int x1), (2, .int x2), (3, .int x3), (4, .int x4), (5, .int x5)]) hx hb dX0_line_39 hl (by decide) rfl (fun ls hl => ?_)
  refine lv_iload hx hb dX0_line_41 (lv_at hl 0 rfl) ?_
  refine lv_if_eq (tgt := 77) hx hb dX0_line_43 (by decide) (fun c_2 => ?_) (fun c_2 => ?_)
  · have hw := hw.1 c_2
    refine lv_iconst (v := (-1)) hx hb dX0_line_77 (by decide) ?_
    refine W.widen (k := 1) (n := 6) (Nat.le_of_ble_eq_true rfl) (Nat.le_of_ble_eq_true rfl) ?_
    exact x_iret F C hw dX0_line_78
  · have hw := hw.2 c_2
    refine lv_aload_n hx hb dX0_line_46 rfl (lv_at hl 1 rfl) ?_
    refine lv_iload_n hx hb dX0_line_47 rfl (lv_at hl 3 rfl) ?_
    refine x_callI (rest := []) (ci := 0) (q := (RX0, TX0, 41)) F C (ctX0_isPerson hE hX hw) (cwV 1 hts (lw_V q251 q253 qs0 q70 q254) rfl rfl rfl (by decide +kernel) ⟨Nat.le_of_ble_eq_true rfl, Nat.le_of_ble_eq_true rfl⟩) rfl rfl rfl hl.1 rfl (Nat.le_of_ble_eq_true rfl) dX0_line_48 ⟨Nat.zero_le _, Nat.zero_le _⟩ (fun r_4 s_3 H locs hw C => ?_)
    refine lv_if_eq (tgt := 77) hx hb dX0_line_51 (by decide) (fun c_5 => ?_) (fun c_5 => ?_)
    · have hw := hw.1 c_5
      refine lv_iconst (v := (-1)) hx hb dX0_line_77 (by decide) ?_
      refine W.widen (k := 1) (n := 6) (Nat.le_of_ble_eq_true rfl) (Nat.le_of_ble_eq_true rfl) ?_
      exact x_iret F C hw dX0_line_78
    · have hw := hw.2 c_5
      refine lv_aload_n hx hb dX0_line_54 rfl (lv_at hl 1 rfl) ?_
      refine lv_iload_n hx hb dX0_line_55 rfl (lv_at hl 4 rfl) ?_
      refine x_callI (rest := []) (ci := 0) (q := (RX0, TX0, 41)) F C (ctX0_isPerson hE hX hw) (cwV 1 hts (lw_V q251 q253 qs0 q70 q254) rfl rfl rfl (by decide +kernel) ⟨Nat.le_of_ble_eq_true rfl, Nat.le_of_ble_eq_true rfl⟩) rfl rfl rfl hl.1 rfl (Nat.le_of_ble_eq_true rfl) dX0_line_56 ⟨Nat.zero_le _, Nat.zero_le _⟩ (fun r_7 s_6 H locs hw C => ?_)
      refine lv_if_eq (tgt := 77) hx hb dX0_line_59 (by decide) (fun c_8 => ?_) (fun c_8 => ?_)
      · have hw := hw.1 c_8
        refine lv_iconst (v := (-1)) hx hb dX0_line_77 (by decide) ?_
        refine W.widen (k := 1) (n := 6) (Nat.le_of_ble_eq_true rfl) (Nat.le_of_ble_eq_true rfl) ?_
        exact x_iret F C hw dX0_line_78
      · have hw := hw.2 c_8
        refine lv_aload_n hx hb dX0_line_62 rfl (lv_at hl 1 rfl) ?_
        refine x0_g8 F C dX0_line_63 ?_
        refine lv_iload_n hx hb dX0_line_66 rfl (lv_at hl 3 rfl) ?_
        obtain ⟨h_9, hw⟩ := hw
        refine x0_ld8 F C h_9 dX0_line_67 ?_
        refine lv_aload_n hx hb dX0_line_68 rfl (lv_at hl 1 rfl) ?_
        refine x0_g8 F C dX0_line_69 ?_
        refine lv_iload_n hx hb dX0_line_72 rfl (lv_at hl 4 rfl) ?_
        obtain ⟨h_10, hw⟩ := hw
        refine x0_ld8 F C h_10 dX0_line_73 ?_
        refine lv_icmp_lt (tgt := 79) hx hb dX0_line_74 (by decide) (fun c_11 => ?_) (fun c_11 => ?_)
        · have hw := hw.1 c_11
          refine lv_aload_n hx hb dX0_line_79 rfl (lv_at hl 1 rfl) ?_
          refine x0_g11 F C dX0_line_80 ?_
          refine lv_bipush (v := 40) hx hb dX0_line_83 (by decide) ?_
          refine lv_icmp_ne (tgt := 91) hx hb dX0_line_85 (by decide) (fun c_12 => ?_) (fun c_12 => ?_)
          · have hw := hw.2 c_12
            refine lv_aload_n hx hb dX0_line_91 rfl (lv_at hl 1 rfl) ?_
            refine lv_iload_n hx hb dX0_line_92 rfl (lv_at hl 3 rfl) ?_
            refine lv_iload_n hx hb dX0_line_93 rfl (lv_at hl 4 rfl) ?_
            refine x_callI (rest := []) (ci := 0) (q := (RX0, TX0, 41)) F C (ctX0_hasLine hE hX hw) (cwV 2 hts (lw_V q267 q269 qs2 q70 q270) rfl rfl rfl (by decide +kernel) ⟨Nat.le_of_ble_eq_true rfl, Nat.le_of_ble_eq_true rfl⟩) rfl rfl rfl hl.1 rfl (Nat.le_of_ble_eq_true rfl) dX0_line_94 ⟨Nat.zero_le _, Nat.zero_le _⟩ (fun r_14 s_13 H locs hw C => ?_)
            refine lv_if_ne (tgt := 109) hx hb dX0_line_97 (by decide) (fun c_15 => ?_) (fun c_15 => ?_)
            · have hw := hw.2 c_15
              refine lv_bipush (v := (-4)) hx hb dX0_line_109 (by decide) ?_
              refine W.widen (k := 1) (n := 6) (Nat.le_of_ble_eq_true rfl) (Nat.le_of_ble_eq_true rfl) ?_
              exact x_iret F C hw dX0_line_111
            · have hw := hw.1 c_15
              refine lv_aload_n hx hb dX0_line_100 rfl (lv_at hl 1 rfl) ?_
              refine lv_iload_n hx hb dX0_line_101 rfl (lv_at hl 4 rfl) ?_
              refine x_callI (rest := []) (ci := 0) (q := (RX0, TX0, 41)) F C (ctX0_linesTo hE hX hw) (cwV 1 hts (lw_V q255 q257 qs1 q70 q258) rfl rfl rfl (by decide +kernel) ⟨Nat.le_of_ble_eq_true rfl, Nat.le_of_ble_eq_true rfl⟩) rfl rfl rfl hl.1 rfl (Nat.le_of_ble_eq_true rfl) dX0_line_102 ⟨Nat.zero_le _, Nat.zero_le _⟩ (fun r_17 s_16 H locs hw C => ?_)
              refine lv_iconst (v := 2) hx hb dX0_line_105 (by decide) ?_
              refine lv_icmp_ne (tgt := 112) hx hb dX0_line_106 (by decide) (fun c_18 => ?_) (fun c_18 => ?_)
              · have hw := hw.2 c_18
                refine lv_aload_n hx hb dX0_line_112 rfl (lv_at hl 1 rfl) ?_
                refine x0_g10 F C dX0_line_113 ?_
                refine lv_aload_n hx hb dX0_line_116 rfl (lv_at hl 1 rfl) ?_
                refine x0_g11 F C dX0_line_117 ?_
                refine lv_iload_n hx hb dX0_line_120 rfl (lv_at hl 2 rfl) ?_
                refine lv_if_ne (tgt := 137) hx hb dX0_line_121 (by decide) (fun c_19 => ?_) (fun c_19 => ?_)
                · have hw := hw.2 c_19
                  refine lv_iload_n hx hb dX0_line_137 rfl (lv_at hl 2 rfl) ?_
                  refine lv_iconst (v := 1) hx hb dX0_line_138 (by decide) ?_
                  refine lv_icmp_ne (tgt := 157) hx hb dX0_line_139 (by decide) (fun c_20 => ?_) (fun c_20 => ?_)
                  · have hw := hw.2 c_20
                    refine x0_new3 F C (Nat.le_of_ble_eq_true rfl) (Nat.le_of_ble_eq_true rfl) dX0_line_157 (fun q_21 H s_22 es_22 hq_21 C => ?_)
                    have hw := hw q_21 s_22 hq_21 es_22
                    refine W.widen (k := 1) (n := 6) (Nat.le_of_ble_eq_true rfl) (Nat.le_of_ble_eq_true rfl) ?_
                    refine lv_dup hx hb dX0_line_160 rfl ?_
                    refine lv_aload_n hx hb dX0_line_161 rfl (lv_at hl 1 rfl) ?_
                    refine lv_iload_n hx hb dX0_line_162 rfl (lv_at hl 3 rfl) ?_
                    refine lv_iload_n hx hb dX0_line_163 rfl (lv_at hl 4 rfl) ?_
                    refine lv_iload hx hb dX0_line_164 (lv_at hl 5 rfl) ?_
                    refine x_callC (rest := [.ref q_21, .int (sI s_16 11), .ref (ad 10)]) F C (ctX4_init_c3 hE hw) (cwI 4 hts (lw_meth q319) rfl rfl rfl (hts _ q74) (hts _ q317) (hts _ q318) rfl (by decide +kernel) ⟨Nat.le_of_ble_eq_true rfl, Nat.le_of_ble_eq_true rfl⟩) rfl hl.1 rfl (Nat.le_of_ble_eq_true rfl) dX0_line_166 ⟨Nat.le_of_ble_eq_true rfl, Nat.le_of_ble_eq_true rfl⟩ (fun s_23 H locs hw C => ?_)
                    exact kX0_line_169 hX F  q_21 (sI s_16 11) s_23 _ _ _ hw C (lv_sub hl [1] rfl)
                  · have hw := hw.1 c_20
                    refine x0_new2 F C (Nat.le_of_ble_eq_true rfl) (Nat.le_of_ble_eq_true rfl) dX0_line_142 (fun q_28 H s_29 es_29 hq_28 C => ?_)
                    have hw := hw q_28 s_29 hq_28 es_29
                    refine W.widen (k := 1) (n := 6) (Nat.le_of_ble_eq_true rfl) (Nat.le_of_ble_eq_true rfl) ?_
                    refine lv_dup hx hb dX0_line_145 rfl ?_
                    refine lv_aload_n hx hb dX0_line_146 rfl (lv_at hl 1 rfl) ?_
                    refine lv_iload_n hx hb dX0_line_147 rfl (lv_at hl 3 rfl) ?_
                    refine lv_iload_n hx hb dX0_line_148 rfl (lv_at hl 4 rfl) ?_
                    refine lv_iload hx hb dX0_line_149 (lv_at hl 6 rfl) ?_
                    refine x_callC (rest := [.ref q_28, .int (sI s_16 11), .ref (ad 10)]) F C (ctX3_init_c2 hE hw) (cwI 4 hts (lw_meth q301) rfl rfl rfl (hts _ q73) (hts _ q299) (hts _ q300) rfl (by decide +kernel) ⟨Nat.le_of_ble_eq_true rfl, Nat.le_of_ble_eq_true rfl⟩) rfl hl.1 rfl (Nat.le_of_ble_eq_true rfl) dX0_line_151 ⟨Nat.le_of_ble_eq_true rfl, Nat.le_of_ble_eq_true rfl⟩ (fun s_30 H locs hw C => ?_)
                    refine lv_goto (tgt := 169) hx hb dX0_line_154 (by decide) ?_
                    exact kX0_line_169 hX F  q_28 (sI s_16 11) s_30 _ _ _ hw C (lv_sub hl [1] rfl)
                · have hw := hw.1 c_19
                  refine x0_new1 F C (Nat.le_of_ble_eq_true rfl) (Nat.le_of_ble_eq_true rfl) dX0_line_124 (fun q_31 H s_32 es_32 hq_31 C => ?_)
                  have hw := hw q_31 s_32 hq_31 es_32
                  refine W.widen (k := 1) (n := 6) (Nat.le_of_ble_eq_true rfl) (Nat.le_of_ble_eq_true rfl) ?_
                  refine lv_dup hx hb dX0_line_127 rfl ?_
                  refine lv_aload_n hx hb dX0_line_128 rfl (lv_at hl 1 rfl) ?_
                  refine lv_iload_n hx hb dX0_line_129 rfl (lv_at hl 3 rfl) ?_
                  refine lv_iload_n hx hb dX0_line_130 rfl (lv_at hl 4 rfl) ?_
                  refine x_callC (rest := [.ref q_31, .int (sI s_16 11), .ref (ad 10)]) F C (ctX2_init_c1 hE hw) (cwI 3 hts (lw_meth q274) rfl rfl rfl (hts _ q72) (hts _ q272) (hts _ q273) rfl (by decide +kernel) ⟨Nat.le_of_ble_eq_true rfl, Nat.le_of_ble_eq_true rfl⟩) rfl hl.1 rfl (Nat.le_of_ble_eq_true rfl) dX0_line_131 ⟨Nat.le_of_ble_eq_true rfl, Nat.le_of_ble_eq_true rfl⟩ (fun s_33 H locs hw C => ?_)
                  refine lv_goto (tgt := 169) hx hb dX0_line_134 (by decide) ?_
                  exact kX0_line_169 hX F  q_31 (sI s_16 11) s_33 _ _ _ hw C (lv_sub hl [1] rfl)
              · have hw := hw.1 c_18
                refine lv_bipush (v := (-4)) hx hb dX0_line_109 (by decide) ?_
                refine W.widen (k := 1) (n := 6) (Nat.le_of_ble_eq_true rfl) (Nat.le_of_ble_eq_true rfl) ?_
                exact x_iret F C hw dX0_line_111
          · have hw := hw.1 c_12
            refine lv_bipush (v := (-2)) hx hb dX0_line_88 (by decide) ?_
            refine W.widen (k := 1) (n := 6) (Nat.le_of_ble_eq_true rfl) (Nat.le_of_ble_eq_true rfl) ?_
            exact x_iret F C hw dX0_line_90
        · have hw := hw.2 c_11
          refine lv_iconst (v := (-1)) hx hb dX0_line_77 (by decide) ?_
          refine W.widen (k := 1) (n := 6) (Nat.le_of_ble_eq_true rfl) (Nat.le_of_ble_eq_true rfl) ?_
          exact x_iret F C hw dX0_line_78
set_option maxHeartbeats 4000000 in
theorem kX0_line_34 (hX : ∀ U, E U → EL U) {post : Int32 → CS → Prop}  (F : Fx p s m args meth c cX0_line 7 RX0 (some .int) D d E A) : ∀ (x1 : Int32) (x2 : Int32) (x3 : Int32) (x4 : Int32) (x5 : Int32) (st : CS) (H : Heap) (locs : List Loc) (ls : Array Slot), wX0_line_34  post  x1 x2 x3 x4 x5 st → Cx D (wX o ad d) A s st H locs → lv_has ls 7 [(0, .ref o), (1, .int x1), (2, .int x2), (3, .int x3), (4, .int x4), (5, .int x5)] → W p l e (headSpec (ws_ yX0_line cX0_line 7 (some .int)) rmX0_line).room s m args below meth c H locs 0 0 (QI below D d E (wX o ad d) A args s 1 6 post) (F0 m 34 ls []) := by
  obtain ⟨hx, hb, hr, hml, hown, hts, hlk, hA, hK, hE⟩ := id F
  intro x1 x2 x3 x4 x5 st H locs ls hw C hl
  unfold wX0_line_34 at hw
  refine lv_iconst (v := 1) hx hb dX0_line_34 (by decide) ?_
  refine lv_goto (tgt := 39) hx hb dX0_line_35 (by decide) ?_
  exact kX0_line_39 hX F  x1 x2 x3 x4 x5 1 st _ _ _ hw C hl
set_option maxHeartbeats 4000000 in
theorem kX0_line_38 (hX : ∀ U, E U → EL U) {post : Int32 → CS → Prop}  (F : Fx p s m args meth c cX0_line 7 RX0 (some .int) D d E A) : ∀ (x1 : Int32) (x2 : Int32) (x3 : Int32) (x4 : Int32) (x5 : Int32) (st : CS) (H : Heap) (locs : List Loc) (ls : Array Slot), wX0_line_38  post  x1 x2 x3 x4 x5 st → Cx D (wX o ad d) A s st H locs → lv_has ls 7 [(0, .ref o), (1, .int x1), (2, .int x2), (3, .int x3), (4, .int x4), (5, .int x5)] → W p l e (headSpec (ws_ yX0_line cX0_line 7 (some .int)) rmX0_line).room s m args below meth c H locs 0 0 (QI below D d E (wX o ad d) A args s 1 6 post) (F0 m 38 ls []) := by
  obtain ⟨hx, hb, hr, hml, hown, hts, hlk, hA, hK, hE⟩ := id F
  intro x1 x2 x3 x4 x5 st H locs ls hw C hl
  unfold wX0_line_38 at hw
  refine lv_iconst (v := 0) hx hb dX0_line_38 (by decide) ?_
  exact kX0_line_39 hX F  x1 x2 x3 x4 x5 0 st _ _ _ hw C hl
set_option maxHeartbeats 4000000 in
theorem kX0_line_21 (hX : ∀ U, E U → EL U) {post : Int32 → CS → Prop}  (F : Fx p s m args meth c cX0_line 7 RX0 (some .int) D d E A) : ∀ (x1 : Int32) (x2 : Int32) (x3 : Int32) (x4 : Int32) (x5 : Int32) (st : CS) (H : Heap) (locs : List Loc) (ls : Array Slot), wX0_line_21  post  x1 x2 x3 x4 x5 st → Cx D (wX o ad d) A s st H locs → lv_has ls 7 [(0, .ref o), (1, .int x1), (2, .int x2), (3, .int x3), (4, .int x4), (5, .int x5)] → W p l e (headSpec (ws_ yX0_line cX0_line 7 (some .int)) rmX0_line).room s m args below meth c H locs 0 0 (QI below D d E (wX o ad d) A args s 1 6 post) (F0 m 21 ls []) := by
  obtain ⟨hx, hb, hr, hml, hown, hts, hlk, hA, hK, hE⟩ := id F
  intro x1 x2 x3 x4 x5 st H locs ls hw C hl
  unfold wX0_line_21 at hw
  refine lv_iload_n hx hb dX0_line_21 rfl (lv_at hl 1 rfl) ?_
  refine lv_iconst (v := 3) hx hb dX0_line_22 (by decide) ?_
  refine lv_icmp_ne (tgt := 38) hx hb dX0_line_23 (by decide) (fun c_35 => ?_) (fun c_35 => ?_)
  · have hw := hw.2 c_35
    exact kX0_line_38 hX F  x1 x2 x3 x4 x5 st _ _ _ hw C hl
  · have hw := hw.1 c_35
    refine lv_iload hx hb dX0_line_26 (lv_at hl 4 rfl) ?_
    refine x_callSI (rest := []) F C (ctX0_isDay hE hw) (va_cwS 1 hts (lw_S q243 q244 q70 q245) rfl rfl rfl (by decide +kernel) ⟨Nat.le_of_ble_eq_true rfl, Nat.le_of_ble_eq_true rfl⟩) rfl hl.1 rfl (Nat.le_of_ble_eq_true rfl) dX0_line_28 ⟨Nat.zero_le _, Nat.zero_le _⟩ (fun r_37 s_36 H locs hw C => ?_)
    refine lv_if_eq (tgt := 38) hx hb dX0_line_31 (by decide) (fun c_38 => ?_) (fun c_38 => ?_)
    · have hw := hw.1 c_38
      exact kX0_line_38 hX F  x1 x2 x3 x4 x5 s_36 _ _ _ hw C hl
    · have hw := hw.2 c_38
      exact kX0_line_34 hX F  x1 x2 x3 x4 x5 s_36 _ _ _ hw C hl
theorem ctX0_line (hE : Em E) (hX : ∀ U, E U → EL U) {post : Int32 → CS → Prop} {s0 : CS} {p0 p1 p2 p3 p4 : Int32} (hw : wpX0_line  post s0 p0 p1 p2 p3 p4) : CtI l yX0_line (ws_ yX0_line cX0_line 7 (some .int)) rmX0_line D d E (wX o ad d) 1 6 [.ref o, .int p0, .int p1, .int p2, .int p3, .int p4] s0 post := by
  refine CtI.of hE (by decide) rfl (Nat.le_of_ble_eq_true rfl) ?_
  intro p e s m below meth c A ls F C hl
  have hl : lv_has ls 7 [(0, .ref o), (1, .int p0), (2, .int p1), (3, .int p2), (4, .int p3), (5, .int p4)] := hl
  unfold wpX0_line at hw
  obtain ⟨hx, hb, hr, hml, hown, hts, hlk, hA, hK, -⟩ := id F
  refine lv_iload_n hx hb dX0_line_0 rfl (lv_at hl 1 rfl) ?_
  refine lv_if_eq (tgt := 34) hx hb dX0_line_1 (by decide) (fun c_1 => ?_) (fun c_1 => ?_)
  · have hw := hw.1 c_1
    exact kX0_line_34 hX F  p0 p1 p2 p3 p4 s0 _ _ _ hw C hl
  · have hw := hw.2 c_1
    refine lv_iload_n hx hb dX0_line_4 rfl (lv_at hl 1 rfl) ?_
    refine lv_iconst (v := 1) hx hb dX0_line_5 (by decide) ?_
    refine lv_icmp_ne (tgt := 21) hx hb dX0_line_6 (by decide) (fun c_34 => ?_) (fun c_34 => ?_)
    · have hw := hw.2 c_34
      exact kX0_line_21 hX F  p0 p1 p2 p3 p4 s0 _ _ _ hw C hl
    · have hw := hw.1 c_34
      refine lv_iload hx hb dX0_line_9 (lv_at hl 5 rfl) ?_
      refine lv_iconst (v := 1) hx hb dX0_line_11 (by decide) ?_
      refine lv_sipush (v := 1000) hx hb dX0_line_12 (by decide) ?_
      refine x_callSI (rest := []) F C (ctX0_in hE hw) (va_cwS 3 hts (lw_S q240 q241 q70 q242) rfl rfl rfl (by decide +kernel) ⟨Nat.le_of_ble_eq_true rfl, Nat.le_of_ble_eq_true rfl⟩) rfl hl.1 rfl (Nat.le_of_ble_eq_true rfl) dX0_line_15 ⟨Nat.zero_le _, Nat.zero_le _⟩ (fun r_40 s_39 H locs hw C => ?_)
      refine lv_if_ne (tgt := 34) hx hb dX0_line_18 (by decide) (fun c_41 => ?_) (fun c_41 => ?_)
      · have hw := hw.2 c_41
        exact kX0_line_34 hX F  p0 p1 p2 p3 p4 s_39 _ _ _ hw C hl
      · have hw := hw.1 c_41
        exact kX0_line_21 hX F  p0 p1 p2 p3 p4 s_39 _ _ _ hw C hl

abbrev rmX0_isLine : Room := { frames := 1, cells := 0, slots := 0, locals := 22 }
def wpX0_isLine  (post : Int32 → CS → Prop) (s0 : CS) (p0 : Int32) : Prop := (wpX0_in (fun r_2 s_1 => (zb r_2 ∧ post r_2 s_1)) s0 p0 0 ((sI s0 11) - 1))
theorem ctX0_isLine (hE : Em E) (hX : ∀ U, E U → EL U) {post : Int32 → CS → Prop} {s0 : CS} {p0 : Int32} (hw : wpX0_isLine  post s0 p0) : CtI l yX0_isLine (ws_ yX0_isLine cX0_isLine 2 (some .boolean)) rmX0_isLine D d E (wX o ad d) 0 0 [.ref o, .int p0] s0 post := by
  refine CtI.of hE (by decide) rfl (Nat.le_of_ble_eq_true rfl) ?_
  intro p e s m below meth c A ls F C hl
  have hl : lv_has ls 2 [(0, .ref o), (1, .int p0)] := hl
  unfold wpX0_isLine at hw
  obtain ⟨hx, hb, hr, hml, hown, hts, hlk, hA, hK, -⟩ := id F
  refine lv_iload_n hx hb dX0_isLine_0 rfl (lv_at hl 1 rfl) ?_
  refine lv_iconst (v := 0) hx hb dX0_isLine_1 (by decide) ?_
  refine lv_aload_n hx hb dX0_isLine_2 rfl (lv_at hl 0 rfl) ?_
  refine x0_g11 F C dX0_isLine_3 ?_
  refine lv_iconst (v := 1) hx hb dX0_isLine_6 (by decide) ?_
  refine lv_isub hx hb dX0_isLine_7 ?_
  refine x_callSI (rest := []) F C (ctX0_in hE hw) (va_cwS 3 hts (lw_S q240 q241 q70 q242) rfl rfl rfl (by decide +kernel) ⟨Nat.le_of_ble_eq_true rfl, Nat.le_of_ble_eq_true rfl⟩) rfl hl.1 rfl (Nat.le_of_ble_eq_true rfl) dX0_isLine_8 ⟨Nat.zero_le _, Nat.zero_le _⟩ (fun r_2 s_1 H locs hw C => ?_)
  exact x_zret F C hw.1 hw.2 dX0_isLine_11

abbrev rmX0_lineOf : Room := { frames := 3, cells := 0, slots := 0, locals := 60 }
def wpX0_lineOf  (post : Int32 → CS → Prop) (s0 : CS) (p0 : Int32) (p1 : Int32) : Prop := (vp_in p0 40 ∧ ∃ a_2 : Nat, sR s0 10 p0.toNatClampNeg = some a_2 ∧ ((p1 = 0 → (okE s0 a_2 ∧ (post (kindC (sE s0 a_2).1) s0))) ∧ (¬ p1 = 0 → ((p1 = 1 → (okE s0 a_2 ∧ (post ((sE s0 a_2).2.2 0) s0))) ∧ (¬ p1 = 1 → ((p1 = 2 → (okE s0 a_2 ∧ (post ((sE s0 a_2).2.2 1) s0))) ∧ (¬ p1 = 2 → (okE s0 a_2 ∧ ((((sE s0 a_2).2.2 2) = 0 → (post 0 s0)) ∧ (¬ ((sE s0 a_2).2.2 2) = 0 → (post 1 s0)))))))))))
theorem ctX0_lineOf (hE : Em E) (hX : ∀ U, E U → EL U) {post : Int32 → CS → Prop} {s0 : CS} {p0 p1 : Int32} (hw : wpX0_lineOf  post s0 p0 p1) : CtI l yX0_lineOf (ws_ yX0_lineOf cX0_lineOf 4 (some .int)) rmX0_lineOf D d E (wX o ad d) 0 0 [.ref o, .int p0, .int p1] s0 post := by
  refine CtI.of hE (by decide) rfl (Nat.le_of_ble_eq_true rfl) ?_
  intro p e s m below meth c A ls F C hl
  have hl : lv_has ls 4 [(0, .ref o), (1, .int p0), (2, .int p1)] := hl
  unfold wpX0_lineOf at hw
  obtain ⟨hx, hb, hr, hml, hown, hts, hlk, hA, hK, -⟩ := id F
  refine lv_aload_n hx hb dX0_lineOf_0 rfl (lv_at hl 0 rfl) ?_
  refine x0_g10 F C dX0_lineOf_1 ?_
  refine lv_iload_n hx hb dX0_lineOf_4 rfl (lv_at hl 1 rfl) ?_
  obtain ⟨h_1, a_2, ha_2, hw⟩ := hw
  refine x0_ldL F C h_1 ha_2 dX0_lineOf_5 ?_
  refine lv_astore_n (lv' := [(3, .ref a_2), (0, .ref o), (1, .int p0), (2, .int p1)]) hx hb dX0_lineOf_6 rfl hl (by decide) rfl (fun ls hl => ?_)
  refine lv_iload_n hx hb dX0_lineOf_7 rfl (lv_at hl 3 rfl) ?_
  refine lv_if_ne (tgt := 18) hx hb dX0_lineOf_8 (by decide) (fun c_3 => ?_) (fun c_3 => ?_)
  · have hw := hw.2 c_3
    refine lv_iload_n hx hb dX0_lineOf_18 rfl (lv_at hl 3 rfl) ?_
    refine lv_iconst (v := 1) hx hb dX0_lineOf_19 (by decide) ?_
    refine lv_icmp_ne (tgt := 30) hx hb dX0_lineOf_20 (by decide) (fun c_4 => ?_) (fun c_4 => ?_)
    · have hw := hw.2 c_4
      refine lv_iload_n hx hb dX0_lineOf_30 rfl (lv_at hl 3 rfl) ?_
      refine lv_iconst (v := 2) hx hb dX0_lineOf_31 (by decide) ?_
      refine lv_icmp_ne (tgt := 42) hx hb dX0_lineOf_32 (by decide) (fun c_5 => ?_) (fun c_5 => ?_)
      · have hw := hw.2 c_5
        refine lv_aload_n hx hb dX0_lineOf_42 rfl (lv_at hl 0 rfl) ?_
        obtain ⟨h_6, hw⟩ := hw
        refine x0_gL2 F C h_6 dX0_lineOf_43 ?_
        refine lv_if_eq (tgt := 53) hx hb dX0_lineOf_46 (by decide) (fun c_7 => ?_) (fun c_7 => ?_)
        · have hw := hw.1 c_7
          refine lv_iconst (v := 0) hx hb dX0_lineOf_53 (by decide) ?_
          exact x_iret F C hw dX0_lineOf_54
        · have hw := hw.2 c_7
          refine lv_iconst (v := 1) hx hb dX0_lineOf_49 (by decide) ?_
          refine lv_goto (tgt := 54) hx hb dX0_lineOf_50 (by decide) ?_
          exact x_iret F C hw dX0_lineOf_54
      · have hw := hw.1 c_5
        refine lv_aload_n hx hb dX0_lineOf_35 rfl (lv_at hl 0 rfl) ?_
        obtain ⟨h_8, hw⟩ := hw
        refine x0_gL1 F C h_8 dX0_lineOf_36 ?_
        refine lv_goto (tgt := 54) hx hb dX0_lineOf_39 (by decide) ?_
        exact x_iret F C hw dX0_lineOf_54
    · have hw := hw.1 c_4
      refine lv_aload_n hx hb dX0_lineOf_23 rfl (lv_at hl 0 rfl) ?_
      obtain ⟨h_9, hw⟩ := hw
      refine x0_gL0 F C h_9 dX0_lineOf_24 ?_
      refine lv_goto (tgt := 54) hx hb dX0_lineOf_27 (by decide) ?_
      exact x_iret F C hw dX0_lineOf_54
  · have hw := hw.1 c_3
    refine lv_aload_n hx hb dX0_lineOf_11 rfl (lv_at hl 0 rfl) ?_
    obtain ⟨h_10, hw⟩ := hw
    refine x0_kind (rest := []) F C h_10 ⟨Nat.le_of_ble_eq_true rfl, Nat.le_of_ble_eq_true rfl⟩ hl.1 (Nat.le_of_ble_eq_true rfl) dX0_lineOf_12 ⟨Nat.zero_le _, Nat.zero_le _⟩ (fun H locs C => ?_)
    refine lv_goto (tgt := 54) hx hb dX0_lineOf_15 (by decide) ?_
    exact x_iret F C hw dX0_lineOf_54

abbrev rmX0_lineTold : Room := { frames := 4, cells := 0, slots := 0, locals := 83 }
def wX0_lineTold_26  (post : Int32 → CS → Prop)   (st : CS) : Prop := (post (-1) st)
def wpX0_lineTold  (post : Int32 → CS → Prop) (s0 : CS) (p0 : Int32) (p1 : Int32) : Prop := (wpX0_isLine (fun r_2 s_1 => ((r_2 = 0 → (wX0_lineTold_26  post  s_1)) ∧ (¬ r_2 = 0 → (wpX0_in (fun r_5 s_4 => ((r_5 = 0 → (wX0_lineTold_26  post  s_4)) ∧ (¬ r_5 = 0 → (wpX0_lineOf (fun r_8 s_7 => (post r_8 s_7)) s_4 p0 p1)))) s_1 p1 0 3)))) s0 p0)
set_option maxHeartbeats 4000000 in
theorem kX0_lineTold_26 (hX : ∀ U, E U → EL U) {post : Int32 → CS → Prop}  (F : Fx p s m args meth c cX0_lineTold 3 RX0 (some .int) D d E A) : ∀  (st : CS) (H : Heap) (locs : List Loc) (ls : Array Slot), wX0_lineTold_26  post  st → Cx D (wX o ad d) A s st H locs → lv_has ls 3 [] → W p l e (headSpec (ws_ yX0_lineTold cX0_lineTold 3 (some .int)) rmX0_lineTold).room s m args below meth c H locs 0 0 (QI below D d E (wX o ad d) A args s 0 0 post) (F0 m 26 ls []) := by
  obtain ⟨hx, hb, hr, hml, hown, hts, hlk, hA, hK, hE⟩ := id F
  intro st H locs ls hw C hl
  unfold wX0_lineTold_26 at hw
  refine lv_iconst (v := (-1)) hx hb dX0_lineTold_26 (by decide) ?_
  exact x_iret F C hw dX0_lineTold_27
theorem ctX0_lineTold (hE : Em E) (hX : ∀ U, E U → EL U) {post : Int32 → CS → Prop} {s0 : CS} {p0 p1 : Int32} (hw : wpX0_lineTold  post s0 p0 p1) : CtI l yX0_lineTold (ws_ yX0_lineTold cX0_lineTold 3 (some .int)) rmX0_lineTold D d E (wX o ad d) 0 0 [.ref o, .int p0, .int p1] s0 post := by
  refine CtI.of hE (by decide) rfl (Nat.le_of_ble_eq_true rfl) ?_
  intro p e s m below meth c A ls F C hl
  have hl : lv_has ls 3 [(0, .ref o), (1, .int p0), (2, .int p1)] := hl
  unfold wpX0_lineTold at hw
  obtain ⟨hx, hb, hr, hml, hown, hts, hlk, hA, hK, -⟩ := id F
  refine lv_aload_n hx hb dX0_lineTold_0 rfl (lv_at hl 0 rfl) ?_
  refine lv_iload_n hx hb dX0_lineTold_1 rfl (lv_at hl 1 rfl) ?_
  refine x_callI (rest := []) (ci := 0) (q := (RX0, TX0, 41)) F C (ctX0_isLine hE hX hw) (cwV 1 hts (lw_V q336 q338 qs3 q70 q339) rfl rfl rfl (by decide +kernel) ⟨Nat.le_of_ble_eq_true rfl, Nat.le_of_ble_eq_true rfl⟩) rfl rfl rfl hl.1 rfl (Nat.le_of_ble_eq_true rfl) dX0_lineTold_2 ⟨Nat.zero_le _, Nat.zero_le _⟩ (fun r_2 s_1 H locs hw C => ?_)
  refine lv_if_eq (tgt := 26) hx hb dX0_lineTold_5 (by decide) (fun c_3 => ?_) (fun c_3 => ?_)
  · have hw := hw.1 c_3
    exact kX0_lineTold_26 hX F  s_1 _ _ _ hw C (lv_sub hl [] rfl)
  · have hw := hw.2 c_3
    refine lv_iload_n hx hb dX0_lineTold_8 rfl (lv_at hl 2 rfl) ?_
    refine lv_iconst (v := 0) hx hb dX0_lineTold_9 (by decide) ?_
    refine lv_iconst (v := 3) hx hb dX0_lineTold_10 (by decide) ?_
    refine x_callSI (rest := []) F C (ctX0_in hE hw) (va_cwS 3 hts (lw_S q240 q241 q70 q242) rfl rfl rfl (by decide +kernel) ⟨Nat.le_of_ble_eq_true rfl, Nat.le_of_ble_eq_true rfl⟩) rfl hl.1 rfl (Nat.le_of_ble_eq_true rfl) dX0_lineTold_11 ⟨Nat.zero_le _, Nat.zero_le _⟩ (fun r_5 s_4 H locs hw C => ?_)
    refine lv_if_eq (tgt := 26) hx hb dX0_lineTold_14 (by decide) (fun c_6 => ?_) (fun c_6 => ?_)
    · have hw := hw.1 c_6
      exact kX0_lineTold_26 hX F  s_4 _ _ _ hw C (lv_sub hl [] rfl)
    · have hw := hw.2 c_6
      refine lv_aload_n hx hb dX0_lineTold_17 rfl (lv_at hl 0 rfl) ?_
      refine lv_iload_n hx hb dX0_lineTold_18 rfl (lv_at hl 1 rfl) ?_
      refine lv_iload_n hx hb dX0_lineTold_19 rfl (lv_at hl 2 rfl) ?_
      refine x_callI (rest := []) (ci := 0) (q := (RX0, TX0, 41)) F C (ctX0_lineOf hE hX hw) (cwV 2 hts (lw_V q340 q342 qs4 q70 q343) rfl rfl rfl (by decide +kernel) ⟨Nat.le_of_ble_eq_true rfl, Nat.le_of_ble_eq_true rfl⟩) rfl rfl rfl hl.1 rfl (Nat.le_of_ble_eq_true rfl) dX0_lineTold_20 ⟨Nat.zero_le _, Nat.zero_le _⟩ (fun r_8 s_7 H locs hw C => ?_)
      refine lv_goto (tgt := 27) hx hb dX0_lineTold_23 (by decide) ?_
      exact x_iret F C hw dX0_lineTold_27

abbrev rmX0_found : Room := { frames := 0, cells := 0, slots := 0, locals := 0 }
def wpX0_found  (post : Int32 → CS → Prop) (s0 : CS) (p0 : Int32) : Prop := (∀ s_1 : CS, s_1 = uI s0 0 p0 → (vp_in p0 6 ∧ (vp_in p0 6 ∧ ∀ s_4 : CS, s_4 = uA s_1 1 p0.toNatClampNeg ((sA s_1 1 p0.toNatClampNeg) + 1) → (post (-3) s_4))))
theorem ctX0_found (hE : Em E) (hX : ∀ U, E U → EL U) {post : Int32 → CS → Prop} {s0 : CS} {p0 : Int32} (hw : wpX0_found  post s0 p0) : CtI l yX0_found (ws_ yX0_found cX0_found 2 (some .int)) rmX0_found D d E (wX o ad d) 0 0 [.ref o, .int p0] s0 post := by
  refine CtI.of hE (by decide) rfl (Nat.le_of_ble_eq_true rfl) ?_
  intro p e s m below meth c A ls F C hl
  have hl : lv_has ls 2 [(0, .ref o), (1, .int p0)] := hl
  unfold wpX0_found at hw
  obtain ⟨hx, hb, hr, hml, hown, hts, hlk, hA, hK, -⟩ := id F
  refine lv_aload_n hx hb dX0_found_0 rfl (lv_at hl 0 rfl) ?_
  refine lv_iload_n hx hb dX0_found_1 rfl (lv_at hl 1 rfl) ?_
  refine x0_p0 F C dX0_found_2 (fun H locs s_1 es_1 C => ?_)
  have hw := hw s_1 es_1
  refine lv_aload_n hx hb dX0_found_5 rfl (lv_at hl 0 rfl) ?_
  refine x0_g1 F C dX0_found_6 ?_
  refine lv_iload_n hx hb dX0_found_9 rfl (lv_at hl 1 rfl) ?_
  refine lv_dup2_11 hx hb dX0_found_10 rfl rfl ?_
  obtain ⟨h_2, hw⟩ := hw
  refine x0_ld1 F C h_2 dX0_found_11 ?_
  refine lv_iconst (v := 1) hx hb dX0_found_12 (by decide) ?_
  refine lv_iadd hx hb dX0_found_13 ?_
  obtain ⟨h_3, hw⟩ := hw
  refine x0_st1 F C h_3 dX0_found_14 (fun H locs s_4 es_4 C => ?_)
  have hw := hw s_4 es_4
  refine lv_bipush (v := (-3)) hx hb dX0_found_15 (by decide) ?_
  exact x_iret F C hw dX0_found_17

abbrev rmX0_prove : Room := { frames := 4, cells := 1, slots := 8, locals := 82 }
def wpX0_prove  (post : Int32 → CS → Prop) (s0 : CS) (p0 : Int32) (p1 : Int32) : Prop := (wpX0_isLine (fun r_2 s_1 => ((r_2 = 0 → (post (-1) s_1)) ∧ (¬ r_2 = 0 → (wpX0_isDay (fun r_5 s_4 => ((r_5 = 0 → (post (-1) s_4)) ∧ (¬ r_5 = 0 → (vp_in p0 40 ∧ ∃ a_8 : Nat, sR s_4 10 p0.toNatClampNeg = some a_8 ∧ (okE s_4 a_8 ∧ ((((sE s_4 a_8).2.2 2) = 0 → (okE s_4 a_8 ∧ (((kindC (sE s_4 a_8).1) = 1 → (∀ (q_13 : Nat) (s_14 : CS), q_13 ∉ sP s_4 → s_14 = uN s_4 q_13 (4, 0, fun _ => 0) → (okC s_14 a_8 2 ∧ (wpX5_init_c4 (fun s_16 => (okE s_16 q_13 ∧ vp_in p0 40 ∧ ∀ s_19 : CS, s_19 = uR s_16 10 p0.toNatClampNeg (some q_13) → (post 1 s_19))) s_14 q_13 a_8 p1)))) ∧ (¬ (kindC (sE s_4 a_8).1) = 1 → (wpX0_found (fun r_21 s_20 => (post r_21 s_20)) s_4 3))))) ∧ (¬ ((sE s_4 a_8).2.2 2) = 0 → (post (-4) s_4)))))))) s_1 p1)))) s0 p0)
theorem ctX0_prove (hE : Em E) (hX : ∀ U, E U → EL U) {post : Int32 → CS → Prop} {s0 : CS} {p0 p1 : Int32} (hw : wpX0_prove  post s0 p0 p1) : CtI l yX0_prove (ws_ yX0_prove cX0_prove 4 (some .int)) rmX0_prove D d E (wX o ad d) 1 8 [.ref o, .int p0, .int p1] s0 post := by
  refine CtI.of hE (by decide) rfl (Nat.le_of_ble_eq_true rfl) ?_
  intro p e s m below meth c A ls F C hl
  have hl : lv_has ls 4 [(0, .ref o), (1, .int p0), (2, .int p1)] := hl
  unfold wpX0_prove at hw
  obtain ⟨hx, hb, hr, hml, hown, hts, hlk, hA, hK, -⟩ := id F
  refine lv_aload_n hx hb dX0_prove_0 rfl (lv_at hl 0 rfl) ?_
  refine lv_iload_n hx hb dX0_prove_1 rfl (lv_at hl 1 rfl) ?_
  refine x_callI (rest := []) (ci := 0) (q := (RX0, TX0, 41)) F C (ctX0_isLine hE hX hw) (cwV 1 hts (lw_V q336 q338 qs3 q70 q339) rfl rfl rfl (by decide +kernel) ⟨Nat.le_of_ble_eq_true rfl, Nat.le_of_ble_eq_true rfl⟩) rfl rfl rfl hl.1 rfl (Nat.le_of_ble_eq_true rfl) dX0_prove_2 ⟨Nat.zero_le _, Nat.zero_le _⟩ (fun r_2 s_1 H locs hw C => ?_)
  refine lv_if_eq (tgt := 15) hx hb dX0_prove_5 (by decide) (fun c_3 => ?_) (fun c_3 => ?_)
  · have hw := hw.1 c_3
    refine lv_iconst (v := (-1)) hx hb dX0_prove_15 (by decide) ?_
    refine W.widen (k := 1) (n := 8) (Nat.le_of_ble_eq_true rfl) (Nat.le_of_ble_eq_true rfl) ?_
    exact x_iret F C hw dX0_prove_16
  · have hw := hw.2 c_3
    refine lv_iload_n hx hb dX0_prove_8 rfl (lv_at hl 2 rfl) ?_
    refine x_callSI (rest := []) F C (ctX0_isDay hE hw) (va_cwS 1 hts (lw_S q243 q244 q70 q245) rfl rfl rfl (by decide +kernel) ⟨Nat.le_of_ble_eq_true rfl, Nat.le_of_ble_eq_true rfl⟩) rfl hl.1 rfl (Nat.le_of_ble_eq_true rfl) dX0_prove_9 ⟨Nat.zero_le _, Nat.zero_le _⟩ (fun r_5 s_4 H locs hw C => ?_)
    refine lv_if_ne (tgt := 17) hx hb dX0_prove_12 (by decide) (fun c_6 => ?_) (fun c_6 => ?_)
    · have hw := hw.2 c_6
      refine lv_aload_n hx hb dX0_prove_17 rfl (lv_at hl 0 rfl) ?_
      refine x0_g10 F C dX0_prove_18 ?_
      refine lv_iload_n hx hb dX0_prove_21 rfl (lv_at hl 1 rfl) ?_
      obtain ⟨h_7, a_8, ha_8, hw⟩ := hw
      refine x0_ldL F C h_7 ha_8 dX0_prove_22 ?_
      refine lv_astore_n (lv' := [(3, .ref a_8), (0, .ref o), (1, .int p0), (2, .int p1)]) hx hb dX0_prove_23 rfl hl (by decide) rfl (fun ls hl => ?_)
      refine lv_aload_n hx hb dX0_prove_24 rfl (lv_at hl 0 rfl) ?_
      obtain ⟨h_9, hw⟩ := hw
      refine x0_gL2 F C h_9 dX0_prove_25 ?_
      refine lv_if_eq (tgt := 34) hx hb dX0_prove_28 (by decide) (fun c_10 => ?_) (fun c_10 => ?_)
      · have hw := hw.1 c_10
        refine lv_aload_n hx hb dX0_prove_34 rfl (lv_at hl 0 rfl) ?_
        obtain ⟨h_11, hw⟩ := hw
        refine x0_kind (rest := []) F C h_11 ⟨Nat.le_of_ble_eq_true rfl, Nat.le_of_ble_eq_true rfl⟩ hl.1 (Nat.le_of_ble_eq_true rfl) dX0_prove_35 ⟨Nat.zero_le _, Nat.zero_le _⟩ (fun H locs C => ?_)
        refine lv_iconst (v := 1) hx hb dX0_prove_38 (by decide) ?_
        refine lv_icmp_eq (tgt := 48) hx hb dX0_prove_39 (by decide) (fun c_12 => ?_) (fun c_12 => ?_)
        · have hw := hw.1 c_12
          refine lv_aload_n hx hb dX0_prove_48 rfl (lv_at hl 1 rfl) ?_
          refine x0_g10 F C dX0_prove_49 ?_
          refine lv_iload_n hx hb dX0_prove_52 rfl (lv_at hl 2 rfl) ?_
          refine x0_new4 F C (Nat.le_of_ble_eq_true rfl) (Nat.le_of_ble_eq_true rfl) dX0_prove_53 (fun q_13 H s_14 es_14 hq_13 C => ?_)
          have hw := hw q_13 s_14 hq_13 es_14
          refine W.widen (k := 1) (n := 8) (Nat.le_of_ble_eq_true rfl) (Nat.le_of_ble_eq_true rfl) ?_
          refine lv_dup hx hb dX0_prove_56 rfl ?_
          refine lv_aload_n hx hb dX0_prove_57 rfl (lv_at hl 1 rfl) ?_
          refine lv_aload_n hx hb dX0_prove_58 rfl (lv_at hl 0 rfl) ?_
          obtain ⟨h_15, hw⟩ := hw
          refine va_castS hx hb hown (hts _ q297) (xP_class F (ci := 2) (q := (RX3, TX3, 6)) rfl) (xP_recv F C (q := (RX3, TX3, 6)) h_15.1 (pE_2 h_15.2) rfl) dX0_prove_59 ?_
          refine lv_iload_n hx hb dX0_prove_62 rfl (lv_at hl 3 rfl) ?_
          refine x_callC (rest := [.ref q_13, .int p0, .ref (ad 10)]) F C (ctX5_init_c4 hE hw) (cwI 3 hts (lw_meth q478) rfl rfl rfl (hts _ q80) (hts _ q476) (hts _ q477) rfl (by decide +kernel) ⟨Nat.le_of_ble_eq_true rfl, Nat.le_of_ble_eq_true rfl⟩) rfl hl.1 rfl (Nat.le_of_ble_eq_true rfl) dX0_prove_63 ⟨Nat.le_of_ble_eq_true rfl, Nat.le_of_ble_eq_true rfl⟩ (fun s_16 H locs hw C => ?_)
          obtain ⟨h_17, h_18, hw⟩ := hw
          refine x0_stL hX F C h_17 h_18 dX0_prove_66 (fun H locs s_19 es_19 C => ?_)
          have hw := hw s_19 es_19
          refine lv_iconst (v := 1) hx hb dX0_prove_67 (by decide) ?_
          exact x_iret F C hw dX0_prove_68
        · have hw := hw.2 c_12
          refine lv_aload_n hx hb dX0_prove_42 rfl (lv_at hl 1 rfl) ?_
          refine lv_iconst (v := 3) hx hb dX0_prove_43 (by decide) ?_
          refine x_callI (rest := []) (ci := 0) (q := (RX0, TX0, 41)) F C (ctX0_found hE hX hw) (cwV 1 hts (lw_V q467 q469 qs7 q70 q470) rfl rfl rfl (by decide +kernel) ⟨Nat.le_of_ble_eq_true rfl, Nat.le_of_ble_eq_true rfl⟩) rfl rfl rfl hl.1 rfl (Nat.le_of_ble_eq_true rfl) dX0_prove_44 ⟨Nat.zero_le _, Nat.zero_le _⟩ (fun r_21 s_20 H locs hw C => ?_)
          refine W.widen (k := 1) (n := 8) (Nat.le_of_ble_eq_true rfl) (Nat.le_of_ble_eq_true rfl) ?_
          exact x_iret F C hw dX0_prove_47
      · have hw := hw.2 c_10
        refine lv_bipush (v := (-4)) hx hb dX0_prove_31 (by decide) ?_
        refine W.widen (k := 1) (n := 8) (Nat.le_of_ble_eq_true rfl) (Nat.le_of_ble_eq_true rfl) ?_
        exact x_iret F C hw dX0_prove_33
    · have hw := hw.1 c_6
      refine lv_iconst (v := (-1)) hx hb dX0_prove_15 (by decide) ?_
      refine W.widen (k := 1) (n := 8) (Nat.le_of_ble_eq_true rfl) (Nat.le_of_ble_eq_true rfl) ?_
      exact x_iret F C hw dX0_prove_16

abbrev rmX0_strike : Room := { frames := 2, cells := 0, slots := 0, locals := 43 }
def wpX0_strike  (post : Int32 → CS → Prop) (s0 : CS) (p0 : Int32) : Prop := (wpX0_isLine (fun r_2 s_1 => ((r_2 = 0 → (post (-1) s_1)) ∧ (¬ r_2 = 0 → (vp_in p0 40 ∧ ∃ a_5 : Nat, sR s_1 10 p0.toNatClampNeg = some a_5 ∧ (okE s_1 a_5 ∧ ((((sE s_1 a_5).2.2 2) = 0 → (vp_in p0 40 ∧ ∃ a_9 : Nat, sR s_1 10 p0.toNatClampNeg = some a_9 ∧ (okE s_1 a_9 ∧ ∀ s_11 : CS, s_11 = uF s_1 a_9 2 1 → (post 1 s_11)))) ∧ (¬ ((sE s_1 a_5).2.2 2) = 0 → (post (-4) s_1)))))))) s0 p0)
theorem ctX0_strike (hE : Em E) (hX : ∀ U, E U → EL U) {post : Int32 → CS → Prop} {s0 : CS} {p0 : Int32} (hw : wpX0_strike  post s0 p0) : CtI l yX0_strike (ws_ yX0_strike cX0_strike 2 (some .int)) rmX0_strike D d E (wX o ad d) 0 0 [.ref o, .int p0] s0 post := by
  refine CtI.of hE (by decide) rfl (Nat.le_of_ble_eq_true rfl) ?_
  intro p e s m below meth c A ls F C hl
  have hl : lv_has ls 2 [(0, .ref o), (1, .int p0)] := hl
  unfold wpX0_strike at hw
  obtain ⟨hx, hb, hr, hml, hown, hts, hlk, hA, hK, -⟩ := id F
  refine lv_aload_n hx hb dX0_strike_0 rfl (lv_at hl 0 rfl) ?_
  refine lv_iload_n hx hb dX0_strike_1 rfl (lv_at hl 1 rfl) ?_
  refine x_callI (rest := []) (ci := 0) (q := (RX0, TX0, 41)) F C (ctX0_isLine hE hX hw) (cwV 1 hts (lw_V q336 q338 qs3 q70 q339) rfl rfl rfl (by decide +kernel) ⟨Nat.le_of_ble_eq_true rfl, Nat.le_of_ble_eq_true rfl⟩) rfl rfl rfl hl.1 rfl (Nat.le_of_ble_eq_true rfl) dX0_strike_2 ⟨Nat.zero_le _, Nat.zero_le _⟩ (fun r_2 s_1 H locs hw C => ?_)
  refine lv_if_ne (tgt := 10) hx hb dX0_strike_5 (by decide) (fun c_3 => ?_) (fun c_3 => ?_)
  · have hw := hw.2 c_3
    refine lv_aload_n hx hb dX0_strike_10 rfl (lv_at hl 0 rfl) ?_
    refine x0_g10 F C dX0_strike_11 ?_
    refine lv_iload_n hx hb dX0_strike_14 rfl (lv_at hl 1 rfl) ?_
    obtain ⟨h_4, a_5, ha_5, hw⟩ := hw
    refine x0_ldL F C h_4 ha_5 dX0_strike_15 ?_
    obtain ⟨h_6, hw⟩ := hw
    refine x0_gL2 F C h_6 dX0_strike_16 ?_
    refine lv_if_eq (tgt := 25) hx hb dX0_strike_19 (by decide) (fun c_7 => ?_) (fun c_7 => ?_)
    · have hw := hw.1 c_7
      refine lv_aload_n hx hb dX0_strike_25 rfl (lv_at hl 0 rfl) ?_
      refine x0_g10 F C dX0_strike_26 ?_
      refine lv_iload_n hx hb dX0_strike_29 rfl (lv_at hl 1 rfl) ?_
      obtain ⟨h_8, a_9, ha_9, hw⟩ := hw
      refine x0_ldL F C h_8 ha_9 dX0_strike_30 ?_
      refine lv_iconst (v := 1) hx hb dX0_strike_31 (by decide) ?_
      obtain ⟨h_10, hw⟩ := hw
      refine x0_pL2 F C h_10 zb_1 dX0_strike_32 (fun H locs s_11 es_11 C => ?_)
      have hw := hw s_11 es_11
      refine lv_iconst (v := 1) hx hb dX0_strike_35 (by decide) ?_
      exact x_iret F C hw dX0_strike_36
    · have hw := hw.2 c_7
      refine lv_bipush (v := (-4)) hx hb dX0_strike_22 (by decide) ?_
      exact x_iret F C hw dX0_strike_24
  · have hw := hw.1 c_3
    refine lv_iconst (v := (-1)) hx hb dX0_strike_8 (by decide) ?_
    exact x_iret F C hw dX0_strike_9

abbrev rmX0_couple : Room := { frames := 2, cells := 0, slots := 0, locals := 43 }
def wX0_couple_48  (post : Int32 → CS → Prop)  (x1 : Int32) (x2 : Int32) (x3 : Int32) (x4 : Int32) (st : CS) : Prop := (((sI st 12) = 20 → (post (-2) st)) ∧ (¬ (sI st 12) = 20 → (vp_in (4 * (sI st 12)) 80 ∧ ∀ s_14 : CS, s_14 = uA st 13 (4 * (sI st 12)).toNatClampNeg x1 → (vp_in ((4 * (sI s_14 12)) + 1) 80 ∧ ∀ s_16 : CS, s_16 = uA s_14 13 ((4 * (sI s_14 12)) + 1).toNatClampNeg x2 → (vp_in ((4 * (sI s_16 12)) + 2) 80 ∧ ∀ s_18 : CS, s_18 = uA s_16 13 ((4 * (sI s_16 12)) + 2).toNatClampNeg x3 → (vp_in ((4 * (sI s_18 12)) + 3) 80 ∧ ∀ s_20 : CS, s_20 = uA s_18 13 ((4 * (sI s_18 12)) + 3).toNatClampNeg x4 → (∀ s_21 : CS, s_21 = uI s_20 12 ((sI s_20 12) + 1) → (post (sI s_21 12) s_21))))))))
def wpX0_couple  (post : Int32 → CS → Prop) (s0 : CS) (p0 : Int32) (p1 : Int32) (p2 : Int32) (p3 : Int32) : Prop := (wpX0_isPerson (fun r_2 s_1 => ((r_2 = 0 → (post (-1) s_1)) ∧ (¬ r_2 = 0 → (wpX0_isPerson (fun r_5 s_4 => ((r_5 = 0 → (post (-1) s_4)) ∧ (¬ r_5 = 0 → ((p0 = p1 → (post (-1) s_4)) ∧ (¬ p0 = p1 → (wpX0_isDay (fun r_9 s_8 => ((r_9 = 0 → (post (-1) s_8)) ∧ (¬ r_9 = 0 → ((p3 = (-9) → (wX0_couple_48  post  p0 p1 p2 p3 s_8)) ∧ (¬ p3 = (-9) → (wpX0_in (fun r_23 s_22 => ((r_23 = 0 → (post (-1) s_22)) ∧ (¬ r_23 = 0 → (wX0_couple_48  post  p0 p1 p2 p3 s_22)))) s_8 p3 p2 100000)))))) s_4 p2)))))) s_1 p1)))) s0 p0)
set_option maxHeartbeats 4000000 in
theorem kX0_couple_48 (hX : ∀ U, E U → EL U) {post : Int32 → CS → Prop}  (F : Fx p s m args meth c cX0_couple 5 RX0 (some .int) D d E A) : ∀ (x1 : Int32) (x2 : Int32) (x3 : Int32) (x4 : Int32) (st : CS) (H : Heap) (locs : List Loc) (ls : Array Slot), wX0_couple_48  post  x1 x2 x3 x4 st → Cx D (wX o ad d) A s st H locs → lv_has ls 5 [(0, .ref o), (1, .int x1), (2, .int x2), (3, .int x3), (4, .int x4)] → W p l e (headSpec (ws_ yX0_couple cX0_couple 5 (some .int)) rmX0_couple).room s m args below meth c H locs 0 0 (QI below D d E (wX o ad d) A args s 0 0 post) (F0 m 48 ls []) := by
  obtain ⟨hx, hb, hr, hml, hown, hts, hlk, hA, hK, hE⟩ := id F
  intro x1 x2 x3 x4 st H locs ls hw C hl
  unfold wX0_couple_48 at hw
  refine lv_aload_n hx hb dX0_couple_48 rfl (lv_at hl 0 rfl) ?_
  refine x0_g12 F C dX0_couple_49 ?_
  refine lv_bipush (v := 20) hx hb dX0_couple_52 (by decide) ?_
  refine lv_icmp_ne (tgt := 60) hx hb dX0_couple_54 (by decide) (fun c_12 => ?_) (fun c_12 => ?_)
  · have hw := hw.2 c_12
    refine lv_aload_n hx hb dX0_couple_60 rfl (lv_at hl 0 rfl) ?_
    refine x0_g13 F C dX0_couple_61 ?_
    refine lv_iconst (v := 4) hx hb dX0_couple_64 (by decide) ?_
    refine lv_aload_n hx hb dX0_couple_65 rfl (lv_at hl 0 rfl) ?_
    refine x0_g12 F C dX0_couple_66 ?_
    refine lv_imul hx hb dX0_couple_69 ?_
    refine lv_iload_n hx hb dX0_couple_70 rfl (lv_at hl 1 rfl) ?_
    obtain ⟨h_13, hw⟩ := hw
    refine x0_st13 F C h_13 dX0_couple_71 (fun H locs s_14 es_14 C => ?_)
    have hw := hw s_14 es_14
    refine lv_aload_n hx hb dX0_couple_72 rfl (lv_at hl 0 rfl) ?_
    refine x0_g13 F C dX0_couple_73 ?_
    refine lv_iconst (v := 4) hx hb dX0_couple_76 (by decide) ?_
    refine lv_aload_n hx hb dX0_couple_77 rfl (lv_at hl 0 rfl) ?_
    refine x0_g12 F C dX0_couple_78 ?_
    refine lv_imul hx hb dX0_couple_81 ?_
    refine lv_iconst (v := 1) hx hb dX0_couple_82 (by decide) ?_
    refine lv_iadd hx hb dX0_couple_83 ?_
    refine lv_iload_n hx hb dX0_couple_84 rfl (lv_at hl 2 rfl) ?_
    obtain ⟨h_15, hw⟩ := hw
    refine x0_st13 F C h_15 dX0_couple_85 (fun H locs s_16 es_16 C => ?_)
    have hw := hw s_16 es_16
    refine lv_aload_n hx hb dX0_couple_86 rfl (lv_at hl 0 rfl) ?_
    refine x0_g13 F C dX0_couple_87 ?_
    refine lv_iconst (v := 4) hx hb dX0_couple_90 (by decide) ?_
    refine lv_aload_n hx hb dX0_couple_91 rfl (lv_at hl 0 rfl) ?_
    refine x0_g12 F C dX0_couple_92 ?_
    refine lv_imul hx hb dX0_couple_95 ?_
    refine lv_iconst (v := 2) hx hb dX0_couple_96 (by decide) ?_
    refine lv_iadd hx hb dX0_couple_97 ?_
    refine lv_iload_n hx hb dX0_couple_98 rfl (lv_at hl 3 rfl) ?_
    obtain ⟨h_17, hw⟩ := hw
    refine x0_st13 F C h_17 dX0_couple_99 (fun H locs s_18 es_18 C => ?_)
    have hw := hw s_18 es_18
    refine lv_aload_n hx hb dX0_couple_100 rfl (lv_at hl 0 rfl) ?_
    refine x0_g13 F C dX0_couple_101 ?_
    refine lv_iconst (v := 4) hx hb dX0_couple_104 (by decide) ?_
    refine lv_aload_n hx hb dX0_couple_105 rfl (lv_at hl 0 rfl) ?_
    refine x0_g12 F C dX0_couple_106 ?_
    refine lv_imul hx hb dX0_couple_109 ?_
    refine lv_iconst (v := 3) hx hb dX0_couple_110 (by decide) ?_
    refine lv_iadd hx hb dX0_couple_111 ?_
    refine lv_iload hx hb dX0_couple_112 (lv_at hl 4 rfl) ?_
    obtain ⟨h_19, hw⟩ := hw
    refine x0_st13 F C h_19 dX0_couple_114 (fun H locs s_20 es_20 C => ?_)
    have hw := hw s_20 es_20
    refine lv_aload_n hx hb dX0_couple_115 rfl (lv_at hl 0 rfl) ?_
    refine lv_dup hx hb dX0_couple_116 rfl ?_
    refine x0_g12 F C dX0_couple_117 ?_
    refine lv_iconst (v := 1) hx hb dX0_couple_120 (by decide) ?_
    refine lv_iadd hx hb dX0_couple_121 ?_
    refine x0_p12 F C dX0_couple_122 (fun H locs s_21 es_21 C => ?_)
    have hw := hw s_21 es_21
    refine lv_aload_n hx hb dX0_couple_125 rfl (lv_at hl 0 rfl) ?_
    refine x0_g12 F C dX0_couple_126 ?_
    exact x_iret F C hw dX0_couple_129
  · have hw := hw.1 c_12
    refine lv_bipush (v := (-2)) hx hb dX0_couple_57 (by decide) ?_
    exact x_iret F C hw dX0_couple_59
theorem ctX0_couple (hE : Em E) (hX : ∀ U, E U → EL U) {post : Int32 → CS → Prop} {s0 : CS} {p0 p1 p2 p3 : Int32} (hw : wpX0_couple  post s0 p0 p1 p2 p3) : CtI l yX0_couple (ws_ yX0_couple cX0_couple 5 (some .int)) rmX0_couple D d E (wX o ad d) 0 0 [.ref o, .int p0, .int p1, .int p2, .int p3] s0 post := by
  refine CtI.of hE (by decide) rfl (Nat.le_of_ble_eq_true rfl) ?_
  intro p e s m below meth c A ls F C hl
  have hl : lv_has ls 5 [(0, .ref o), (1, .int p0), (2, .int p1), (3, .int p2), (4, .int p3)] := hl
  unfold wpX0_couple at hw
  obtain ⟨hx, hb, hr, hml, hown, hts, hlk, hA, hK, -⟩ := id F
  refine lv_aload_n hx hb dX0_couple_0 rfl (lv_at hl 0 rfl) ?_
  refine lv_iload_n hx hb dX0_couple_1 rfl (lv_at hl 1 rfl) ?_
  refine x_callI (rest := []) (ci := 0) (q := (RX0, TX0, 41)) F C (ctX0_isPerson hE hX hw) (cwV 1 hts (lw_V q251 q253 qs0 q70 q254) rfl rfl rfl (by decide +kernel) ⟨Nat.le_of_ble_eq_true rfl, Nat.le_of_ble_eq_true rfl⟩) rfl rfl rfl hl.1 rfl (Nat.le_of_ble_eq_true rfl) dX0_couple_2 ⟨Nat.zero_le _, Nat.zero_le _⟩ (fun r_2 s_1 H locs hw C => ?_)
  refine lv_if_eq (tgt := 46) hx hb dX0_couple_5 (by decide) (fun c_3 => ?_) (fun c_3 => ?_)
  · have hw := hw.1 c_3
    refine lv_iconst (v := (-1)) hx hb dX0_couple_46 (by decide) ?_
    exact x_iret F C hw dX0_couple_47
  · have hw := hw.2 c_3
    refine lv_aload_n hx hb dX0_couple_8 rfl (lv_at hl 0 rfl) ?_
    refine lv_iload_n hx hb dX0_couple_9 rfl (lv_at hl 2 rfl) ?_
    refine x_callI (rest := []) (ci := 0) (q := (RX0, TX0, 41)) F C (ctX0_isPerson hE hX hw) (cwV 1 hts (lw_V q251 q253 qs0 q70 q254) rfl rfl rfl (by decide +kernel) ⟨Nat.le_of_ble_eq_true rfl, Nat.le_of_ble_eq_true rfl⟩) rfl rfl rfl hl.1 rfl (Nat.le_of_ble_eq_true rfl) dX0_couple_10 ⟨Nat.zero_le _, Nat.zero_le _⟩ (fun r_5 s_4 H locs hw C => ?_)
    refine lv_if_eq (tgt := 46) hx hb dX0_couple_13 (by decide) (fun c_6 => ?_) (fun c_6 => ?_)
    · have hw := hw.1 c_6
      refine lv_iconst (v := (-1)) hx hb dX0_couple_46 (by decide) ?_
      exact x_iret F C hw dX0_couple_47
    · have hw := hw.2 c_6
      refine lv_iload_n hx hb dX0_couple_16 rfl (lv_at hl 1 rfl) ?_
      refine lv_iload_n hx hb dX0_couple_17 rfl (lv_at hl 2 rfl) ?_
      refine lv_icmp_eq (tgt := 46) hx hb dX0_couple_18 (by decide) (fun c_7 => ?_) (fun c_7 => ?_)
      · have hw := hw.1 c_7
        refine lv_iconst (v := (-1)) hx hb dX0_couple_46 (by decide) ?_
        exact x_iret F C hw dX0_couple_47
      · have hw := hw.2 c_7
        refine lv_iload_n hx hb dX0_couple_21 rfl (lv_at hl 3 rfl) ?_
        refine x_callSI (rest := []) F C (ctX0_isDay hE hw) (va_cwS 1 hts (lw_S q243 q244 q70 q245) rfl rfl rfl (by decide +kernel) ⟨Nat.le_of_ble_eq_true rfl, Nat.le_of_ble_eq_true rfl⟩) rfl hl.1 rfl (Nat.le_of_ble_eq_true rfl) dX0_couple_22 ⟨Nat.zero_le _, Nat.zero_le _⟩ (fun r_9 s_8 H locs hw C => ?_)
        refine lv_if_eq (tgt := 46) hx hb dX0_couple_25 (by decide) (fun c_10 => ?_) (fun c_10 => ?_)
        · have hw := hw.1 c_10
          refine lv_iconst (v := (-1)) hx hb dX0_couple_46 (by decide) ?_
          exact x_iret F C hw dX0_couple_47
        · have hw := hw.2 c_10
          refine lv_iload hx hb dX0_couple_28 (lv_at hl 4 rfl) ?_
          refine lv_bipush (v := (-9)) hx hb dX0_couple_30 (by decide) ?_
          refine lv_icmp_eq (tgt := 48) hx hb dX0_couple_32 (by decide) (fun c_11 => ?_) (fun c_11 => ?_)
          · have hw := hw.1 c_11
            exact kX0_couple_48 hX F  p0 p1 p2 p3 s_8 _ _ _ hw C hl
          · have hw := hw.2 c_11
            refine lv_iload hx hb dX0_couple_35 (lv_at hl 4 rfl) ?_
            refine lv_iload_n hx hb dX0_couple_37 rfl (lv_at hl 3 rfl) ?_
            refine lv_ldc hx hb hown (hts _ q246) dX0_couple_38 ?_
            refine x_callSI (rest := []) F C (ctX0_in hE hw) (va_cwS 3 hts (lw_S q240 q241 q70 q242) rfl rfl rfl (by decide +kernel) ⟨Nat.le_of_ble_eq_true rfl, Nat.le_of_ble_eq_true rfl⟩) rfl hl.1 rfl (Nat.le_of_ble_eq_true rfl) dX0_couple_40 ⟨Nat.zero_le _, Nat.zero_le _⟩ (fun r_23 s_22 H locs hw C => ?_)
            refine lv_if_ne (tgt := 48) hx hb dX0_couple_43 (by decide) (fun c_24 => ?_) (fun c_24 => ?_)
            · have hw := hw.2 c_24
              exact kX0_couple_48 hX F  p0 p1 p2 p3 s_22 _ _ _ hw C hl
            · have hw := hw.1 c_24
              refine lv_iconst (v := (-1)) hx hb dX0_couple_46 (by decide) ?_
              exact x_iret F C hw dX0_couple_47

abbrev rmX0_law : Room := { frames := 2, cells := 0, slots := 0, locals := 42 }
def wX0_law_127  (post : Int32 → CS → Prop)  (x6 : Int32) (x7 : Int32) (y0 : Int32) (y1 : Int32) (st : CS) : Prop := (vp_in y1 96 ∧ ∀ s_28 : CS, s_28 = uA st 15 y1.toNatClampNeg y0 → (vp_in (x7 + 5) 96 ∧ ∀ s_30 : CS, s_30 = uA s_28 15 (x7 + 5).toNatClampNeg x6 → (∀ s_31 : CS, s_31 = uI s_30 14 ((sI s_30 14) + 1) → (post ((sI s_31 14) - 1) s_31))))
def wpX0_law  (post : Int32 → CS → Prop) (s0 : CS) (p0 : Int32) (p1 : Int32) (p2 : Int32) (p3 : Int32) (p4 : Int32) (p5 : Int32) : Prop := (wpX0_in (fun r_2 s_1 => ((r_2 = 0 → (post (-1) s_1)) ∧ (¬ r_2 = 0 → (wpX0_isDay (fun r_5 s_4 => ((r_5 = 0 → (post (-1) s_4)) ∧ (¬ r_5 = 0 → (wpX0_in (fun r_8 s_7 => ((r_8 = 0 → (post (-1) s_7)) ∧ (¬ r_8 = 0 → (wpX0_in (fun r_11 s_10 => ((r_11 = 0 → (post (-1) s_10)) ∧ (¬ r_11 = 0 → (wpX0_in (fun r_14 s_13 => ((r_14 = 0 → (post (-1) s_13)) ∧ (¬ r_14 = 0 → (((sI s_13 14) = 16 → (post (-2) s_13)) ∧ (¬ (sI s_13 14) = 16 → (∀ x7_17 : Int32, x7_17 = (6 * (sI s_13 14)) → (vp_in x7_17 96 ∧ ∀ s_19 : CS, s_19 = uA s_13 15 x7_17.toNatClampNeg p0 → (vp_in (x7_17 + 1) 96 ∧ ∀ s_21 : CS, s_21 = uA s_19 15 (x7_17 + 1).toNatClampNeg p1 → (vp_in (x7_17 + 2) 96 ∧ ∀ s_23 : CS, s_23 = uA s_21 15 (x7_17 + 2).toNatClampNeg p2 → (vp_in (x7_17 + 3) 96 ∧ ∀ s_25 : CS, s_25 = uA s_23 15 (x7_17 + 3).toNatClampNeg p3 → ((p4 = 0 → (wX0_law_127  post  p5 x7_17 0 (x7_17 + 4) s_25)) ∧ (¬ p4 = 0 → (wX0_law_127  post  p5 x7_17 1 (x7_17 + 4) s_25))))))))))))) s_10 p5 1 3)))) s_7 p2 0 p3)))) s_4 p3 1 12)))) s_1 p1)))) s0 p0 0 3)
set_option maxHeartbeats 4000000 in
theorem kX0_law_127 (hX : ∀ U, E U → EL U) {post : Int32 → CS → Prop}  (F : Fx p s m args meth c cX0_law 8 RX0 (some .int) D d E A) : ∀ (x6 : Int32) (x7 : Int32) (y0 : Int32) (y1 : Int32) (st : CS) (H : Heap) (locs : List Loc) (ls : Array Slot), wX0_law_127  post  x6 x7 y0 y1 st → Cx D (wX o ad d) A s st H locs → lv_has ls 8 [(0, .ref o), (6, .int x6), (7, .int x7)] → W p l e (headSpec (ws_ yX0_law cX0_law 8 (some .int)) rmX0_law).room s m args below meth c H locs 0 0 (QI below D d E (wX o ad d) A args s 0 0 post) (F0 m 127 ls [.int y0, .int y1, .ref (ad 15)]) := by
  obtain ⟨hx, hb, hr, hml, hown, hts, hlk, hA, hK, hE⟩ := id F
  intro x6 x7 y0 y1 st H locs ls hw C hl
  unfold wX0_law_127 at hw
  obtain ⟨h_27, hw⟩ := hw
  refine x0_st15 F C h_27 dX0_law_127 (fun H locs s_28 es_28 C => ?_)
  have hw := hw s_28 es_28
  refine lv_aload_n hx hb dX0_law_128 rfl (lv_at hl 0 rfl) ?_
  refine x0_g15 F C dX0_law_129 ?_
  refine lv_iload hx hb dX0_law_132 (lv_at hl 2 rfl) ?_
  refine lv_iconst (v := 5) hx hb dX0_law_134 (by decide) ?_
  refine lv_iadd hx hb dX0_law_135 ?_
  refine lv_iload hx hb dX0_law_136 (lv_at hl 1 rfl) ?_
  obtain ⟨h_29, hw⟩ := hw
  refine x0_st15 F C h_29 dX0_law_138 (fun H locs s_30 es_30 C => ?_)
  have hw := hw s_30 es_30
  refine lv_aload_n hx hb dX0_law_139 rfl (lv_at hl 0 rfl) ?_
  refine lv_dup hx hb dX0_law_140 rfl ?_
  refine x0_g14 F C dX0_law_141 ?_
  refine lv_iconst (v := 1) hx hb dX0_law_144 (by decide) ?_
  refine lv_iadd hx hb dX0_law_145 ?_
  refine x0_p14 F C dX0_law_146 (fun H locs s_31 es_31 C => ?_)
  have hw := hw s_31 es_31
  refine lv_aload_n hx hb dX0_law_149 rfl (lv_at hl 0 rfl) ?_
  refine x0_g14 F C dX0_law_150 ?_
  refine lv_iconst (v := 1) hx hb dX0_law_153 (by decide) ?_
  refine lv_isub hx hb dX0_law_154 ?_
  exact x_iret F C hw dX0_law_155
theorem ctX0_law (hE : Em E) (hX : ∀ U, E U → EL U) {post : Int32 → CS → Prop} {s0 : CS} {p0 p1 p2 p3 p4 p5 : Int32} (hw : wpX0_law  post s0 p0 p1 p2 p3 p4 p5) : CtI l yX0_law (ws_ yX0_law cX0_law 8 (some .int)) rmX0_law D d E (wX o ad d) 0 0 [.ref o, .int p0, .int p1, .int p2, .int p3, .int p4, .int p5] s0 post := by
  refine CtI.of hE (by decide) rfl (Nat.le_of_ble_eq_true rfl) ?_
  intro p e s m below meth c A ls F C hl
  have hl : lv_has ls 8 [(0, .ref o), (1, .int p0), (2, .int p1), (3, .int p2), (4, .int p3), (5, .int p4), (6, .int p5)] := hl
  unfold wpX0_law at hw
  obtain ⟨hx, hb, hr, hml, hown, hts, hlk, hA, hK, -⟩ := id F
  refine lv_iload_n hx hb dX0_law_0 rfl (lv_at hl 1 rfl) ?_
  refine lv_iconst (v := 0) hx hb dX0_law_1 (by decide) ?_
  refine lv_iconst (v := 3) hx hb dX0_law_2 (by decide) ?_
  refine x_callSI (rest := []) F C (ctX0_in hE hw) (va_cwS 3 hts (lw_S q240 q241 q70 q242) rfl rfl rfl (by decide +kernel) ⟨Nat.le_of_ble_eq_true rfl, Nat.le_of_ble_eq_true rfl⟩) rfl hl.1 rfl (Nat.le_of_ble_eq_true rfl) dX0_law_3 ⟨Nat.zero_le _, Nat.zero_le _⟩ (fun r_2 s_1 H locs hw C => ?_)
  refine lv_if_eq (tgt := 47) hx hb dX0_law_6 (by decide) (fun c_3 => ?_) (fun c_3 => ?_)
  · have hw := hw.1 c_3
    refine lv_iconst (v := (-1)) hx hb dX0_law_47 (by decide) ?_
    exact x_iret F C hw dX0_law_48
  · have hw := hw.2 c_3
    refine lv_iload_n hx hb dX0_law_9 rfl (lv_at hl 2 rfl) ?_
    refine x_callSI (rest := []) F C (ctX0_isDay hE hw) (va_cwS 1 hts (lw_S q243 q244 q70 q245) rfl rfl rfl (by decide +kernel) ⟨Nat.le_of_ble_eq_true rfl, Nat.le_of_ble_eq_true rfl⟩) rfl hl.1 rfl (Nat.le_of_ble_eq_true rfl) dX0_law_10 ⟨Nat.zero_le _, Nat.zero_le _⟩ (fun r_5 s_4 H locs hw C => ?_)
    refine lv_if_eq (tgt := 47) hx hb dX0_law_13 (by decide) (fun c_6 => ?_) (fun c_6 => ?_)
    · have hw := hw.1 c_6
      refine lv_iconst (v := (-1)) hx hb dX0_law_47 (by decide) ?_
      exact x_iret F C hw dX0_law_48
    · have hw := hw.2 c_6
      refine lv_iload hx hb dX0_law_16 (lv_at hl 4 rfl) ?_
      refine lv_iconst (v := 1) hx hb dX0_law_18 (by decide) ?_
      refine lv_bipush (v := 12) hx hb dX0_law_19 (by decide) ?_
      refine x_callSI (rest := []) F C (ctX0_in hE hw) (va_cwS 3 hts (lw_S q240 q241 q70 q242) rfl rfl rfl (by decide +kernel) ⟨Nat.le_of_ble_eq_true rfl, Nat.le_of_ble_eq_true rfl⟩) rfl hl.1 rfl (Nat.le_of_ble_eq_true rfl) dX0_law_21 ⟨Nat.zero_le _, Nat.zero_le _⟩ (fun r_8 s_7 H locs hw C => ?_)
      refine lv_if_eq (tgt := 47) hx hb dX0_law_24 (by decide) (fun c_9 => ?_) (fun c_9 => ?_)
      · have hw := hw.1 c_9
        refine lv_iconst (v := (-1)) hx hb dX0_law_47 (by decide) ?_
        exact x_iret F C hw dX0_law_48
      · have hw := hw.2 c_9
        refine lv_iload_n hx hb dX0_law_27 rfl (lv_at hl 3 rfl) ?_
        refine lv_iconst (v := 0) hx hb dX0_law_28 (by decide) ?_
        refine lv_iload hx hb dX0_law_29 (lv_at hl 4 rfl) ?_
        refine x_callSI (rest := []) F C (ctX0_in hE hw) (va_cwS 3 hts (lw_S q240 q241 q70 q242) rfl rfl rfl (by decide +kernel) ⟨Nat.le_of_ble_eq_true rfl, Nat.le_of_ble_eq_true rfl⟩) rfl hl.1 rfl (Nat.le_of_ble_eq_true rfl) dX0_law_31 ⟨Nat.zero_le _, Nat.zero_le _⟩ (fun r_11 s_10 H locs hw C => ?_)
        refine lv_if_eq (tgt := 47) hx hb dX0_law_34 (by decide) (fun c_12 => ?_) (fun c_12 => ?_)
        · have hw := hw.1 c_12
          refine lv_iconst (v := (-1)) hx hb dX0_law_47 (by decide) ?_
          exact x_iret F C hw dX0_law_48
        · have hw := hw.2 c_12
          refine lv_iload hx hb dX0_law_37 (lv_at hl 6 rfl) ?_
          refine lv_iconst (v := 1) hx hb dX0_law_39 (by decide) ?_
          refine lv_iconst (v := 3) hx hb dX0_law_40 (by decide) ?_
          refine x_callSI (rest := []) F C (ctX0_in hE hw) (va_cwS 3 hts (lw_S q240 q241 q70 q242) rfl rfl rfl (by decide +kernel) ⟨Nat.le_of_ble_eq_true rfl, Nat.le_of_ble_eq_true rfl⟩) rfl hl.1 rfl (Nat.le_of_ble_eq_true rfl) dX0_law_41 ⟨Nat.zero_le _, Nat.zero_le _⟩ (fun r_14 s_13 H locs hw C => ?_)
          refine lv_if_ne (tgt := 49) hx hb dX0_law_44 (by decide) (fun c_15 => ?_) (fun c_15 => ?_)
          · have hw := hw.2 c_15
            refine lv_aload_n hx hb dX0_law_49 rfl (lv_at hl 0 rfl) ?_
            refine x0_g14 F C dX0_law_50 ?_
            refine lv_bipush (v := 16) hx hb dX0_law_53 (by decide) ?_
            refine lv_icmp_ne (tgt := 61) hx hb dX0_law_55 (by decide) (fun c_16 => ?_) (fun c_16 => ?_)
            · have hw := hw.2 c_16
              refine lv_bipush (v := 6) hx hb dX0_law_61 (by decide) ?_
              refine lv_aload_n hx hb dX0_law_63 rfl (lv_at hl 0 rfl) ?_
              refine x0_g14 F C dX0_law_64 ?_
              refine lv_imul hx hb dX0_law_67 ?_
              refine lv_topi (fun x7_17 ex7_17 => ?_)
              have hw := hw x7_17 ex7_17
              refine lv_istore (lv' := [(7, .int x7_17), (0, .ref o), (1, .int p0), (2, .int p1), (3, .int p2), (4, .int p3), (5, .int p4), (6, .int p5)]) hx hb dX0_law_68 hl (by decide) rfl (fun ls hl => ?_)
              refine lv_aload_n hx hb dX0_law_70 rfl (lv_at hl 1 rfl) ?_
              refine x0_g15 F C dX0_law_71 ?_
              refine lv_iload hx hb dX0_law_74 (lv_at hl 0 rfl) ?_
              refine lv_iload_n hx hb dX0_law_76 rfl (lv_at hl 2 rfl) ?_
              obtain ⟨h_18, hw⟩ := hw
              refine x0_st15 F C h_18 dX0_law_77 (fun H locs s_19 es_19 C => ?_)
              have hw := hw s_19 es_19
              refine lv_aload_n hx hb dX0_law_78 rfl (lv_at hl 1 rfl) ?_
              refine x0_g15 F C dX0_law_79 ?_
              refine lv_iload hx hb dX0_law_82 (lv_at hl 0 rfl) ?_
              refine lv_iconst (v := 1) hx hb dX0_law_84 (by decide) ?_
              refine lv_iadd hx hb dX0_law_85 ?_
              refine lv_iload_n hx hb dX0_law_86 rfl (lv_at hl 3 rfl) ?_
              obtain ⟨h_20, hw⟩ := hw
              refine x0_st15 F C h_20 dX0_law_87 (fun H locs s_21 es_21 C => ?_)
              have hw := hw s_21 es_21
              refine lv_aload_n hx hb dX0_law_88 rfl (lv_at hl 1 rfl) ?_
              refine x0_g15 F C dX0_law_89 ?_
              refine lv_iload hx hb dX0_law_92 (lv_at hl 0 rfl) ?_
              refine lv_iconst (v := 2) hx hb dX0_law_94 (by decide) ?_
              refine lv_iadd hx hb dX0_law_95 ?_
              refine lv_iload_n hx hb dX0_law_96 rfl (lv_at hl 4 rfl) ?_
              obtain ⟨h_22, hw⟩ := hw
              refine x0_st15 F C h_22 dX0_law_97 (fun H locs s_23 es_23 C => ?_)
              have hw := hw s_23 es_23
              refine lv_aload_n hx hb dX0_law_98 rfl (lv_at hl 1 rfl) ?_
              refine x0_g15 F C dX0_law_99 ?_
              refine lv_iload hx hb dX0_law_102 (lv_at hl 0 rfl) ?_
              refine lv_iconst (v := 3) hx hb dX0_law_104 (by decide) ?_
              refine lv_iadd hx hb dX0_law_105 ?_
              refine lv_iload hx hb dX0_law_106 (lv_at hl 5 rfl) ?_
              obtain ⟨h_24, hw⟩ := hw
              refine x0_st15 F C h_24 dX0_law_108 (fun H locs s_25 es_25 C => ?_)
              have hw := hw s_25 es_25
              refine lv_aload_n hx hb dX0_law_109 rfl (lv_at hl 1 rfl) ?_
              refine x0_g15 F C dX0_law_110 ?_
              refine lv_iload hx hb dX0_law_113 (lv_at hl 0 rfl) ?_
              refine lv_iconst (v := 4) hx hb dX0_law_115 (by decide) ?_
              refine lv_iadd hx hb dX0_law_116 ?_
              refine lv_iload hx hb dX0_law_117 (lv_at hl 6 rfl) ?_
              refine lv_if_eq (tgt := 126) hx hb dX0_law_119 (by decide) (fun c_26 => ?_) (fun c_26 => ?_)
              · have hw := hw.1 c_26
                refine lv_iconst (v := 0) hx hb dX0_law_126 (by decide) ?_
                exact kX0_law_127 hX F  p5 x7_17 0 (x7_17 + 4) s_25 _ _ _ hw C (lv_sub hl [1, 7, 0] rfl)
              · have hw := hw.2 c_26
                refine lv_iconst (v := 1) hx hb dX0_law_122 (by decide) ?_
                refine lv_goto (tgt := 127) hx hb dX0_law_123 (by decide) ?_
                exact kX0_law_127 hX F  p5 x7_17 1 (x7_17 + 4) s_25 _ _ _ hw C (lv_sub hl [1, 7, 0] rfl)
            · have hw := hw.1 c_16
              refine lv_bipush (v := (-2)) hx hb dX0_law_58 (by decide) ?_
              exact x_iret F C hw dX0_law_60
          · have hw := hw.1 c_15
            refine lv_iconst (v := (-1)) hx hb dX0_law_47 (by decide) ?_
            exact x_iret F C hw dX0_law_48

abbrev rmX0_isDead : Room := { frames := 2, cells := 0, slots := 0, locals := 43 }
def wX0_isDead_23  (post : Int32 → CS → Prop)   (st : CS) : Prop := (post 0 st)
def wpX0_isDead  (post : Int32 → CS → Prop) (s0 : CS) (p0 : Int32) : Prop := (wpX0_isPerson (fun r_2 s_1 => ((r_2 = 0 → (wX0_isDead_23  post  s_1)) ∧ (¬ r_2 = 0 → (vp_in p0 24 ∧ (((sA s_1 9 p0.toNatClampNeg) = (-9) → (wX0_isDead_23  post  s_1)) ∧ (¬ (sA s_1 9 p0.toNatClampNeg) = (-9) → (post 1 s_1))))))) s0 p0)
set_option maxHeartbeats 4000000 in
theorem kX0_isDead_23 (hX : ∀ U, E U → EL U) {post : Int32 → CS → Prop}  (F : Fx p s m args meth c cX0_isDead 2 RX0 (some .boolean) D d E A) : ∀  (st : CS) (H : Heap) (locs : List Loc) (ls : Array Slot), wX0_isDead_23  post  st → Cx D (wX o ad d) A s st H locs → lv_has ls 2 [] → W p l e (headSpec (ws_ yX0_isDead cX0_isDead 2 (some .boolean)) rmX0_isDead).room s m args below meth c H locs 0 0 (QI below D d E (wX o ad d) A args s 0 0 post) (F0 m 23 ls []) := by
  obtain ⟨hx, hb, hr, hml, hown, hts, hlk, hA, hK, hE⟩ := id F
  intro st H locs ls hw C hl
  unfold wX0_isDead_23 at hw
  refine lv_iconst (v := 0) hx hb dX0_isDead_23 (by decide) ?_
  exact x_zret F C zb_0 hw dX0_isDead_24
theorem ctX0_isDead (hE : Em E) (hX : ∀ U, E U → EL U) {post : Int32 → CS → Prop} {s0 : CS} {p0 : Int32} (hw : wpX0_isDead  post s0 p0) : CtI l yX0_isDead (ws_ yX0_isDead cX0_isDead 2 (some .boolean)) rmX0_isDead D d E (wX o ad d) 0 0 [.ref o, .int p0] s0 post := by
  refine CtI.of hE (by decide) rfl (Nat.le_of_ble_eq_true rfl) ?_
  intro p e s m below meth c A ls F C hl
  have hl : lv_has ls 2 [(0, .ref o), (1, .int p0)] := hl
  unfold wpX0_isDead at hw
  obtain ⟨hx, hb, hr, hml, hown, hts, hlk, hA, hK, -⟩ := id F
  refine lv_aload_n hx hb dX0_isDead_0 rfl (lv_at hl 0 rfl) ?_
  refine lv_iload_n hx hb dX0_isDead_1 rfl (lv_at hl 1 rfl) ?_
  refine x_callI (rest := []) (ci := 0) (q := (RX0, TX0, 41)) F C (ctX0_isPerson hE hX hw) (cwV 1 hts (lw_V q251 q253 qs0 q70 q254) rfl rfl rfl (by decide +kernel) ⟨Nat.le_of_ble_eq_true rfl, Nat.le_of_ble_eq_true rfl⟩) rfl rfl rfl hl.1 rfl (Nat.le_of_ble_eq_true rfl) dX0_isDead_2 ⟨Nat.zero_le _, Nat.zero_le _⟩ (fun r_2 s_1 H locs hw C => ?_)
  refine lv_if_eq (tgt := 23) hx hb dX0_isDead_5 (by decide) (fun c_3 => ?_) (fun c_3 => ?_)
  · have hw := hw.1 c_3
    exact kX0_isDead_23 hX F  s_1 _ _ _ hw C (lv_sub hl [] rfl)
  · have hw := hw.2 c_3
    refine lv_aload_n hx hb dX0_isDead_8 rfl (lv_at hl 0 rfl) ?_
    refine x0_g9 F C dX0_isDead_9 ?_
    refine lv_iload_n hx hb dX0_isDead_12 rfl (lv_at hl 1 rfl) ?_
    obtain ⟨h_4, hw⟩ := hw
    refine x0_ld9 F C h_4 dX0_isDead_13 ?_
    refine lv_bipush (v := (-9)) hx hb dX0_isDead_14 (by decide) ?_
    refine lv_icmp_eq (tgt := 23) hx hb dX0_isDead_16 (by decide) (fun c_5 => ?_) (fun c_5 => ?_)
    · have hw := hw.1 c_5
      exact kX0_isDead_23 hX F  s_1 _ _ _ hw C (lv_sub hl [] rfl)
    · have hw := hw.2 c_5
      refine lv_iconst (v := 1) hx hb dX0_isDead_19 (by decide) ?_
      refine lv_goto (tgt := 24) hx hb dX0_isDead_20 (by decide) ?_
      exact x_zret F C zb_1 hw dX0_isDead_24

abbrev rmX0_lawFor : Room := { frames := 0, cells := 0, slots := 0, locals := 0 }
def wX0_lawFor_99  (post : Int32 → CS → Prop) (k5 : Int32 → Int32 → Int32 → CS → Prop) (x1 : Int32) (x3 : Int32) (y0 : Int32) (st : CS) : Prop := (∀ x3_6 : Int32, x3_6 = x3 + 1 → (k5 x1 y0 x3_6 st))
def wX0_lawFor_98  (post : Int32 → CS → Prop) (k5 : Int32 → Int32 → Int32 → CS → Prop) (x1 : Int32) (x2 : Int32) (x3 : Int32) (st : CS) : Prop := (wX0_lawFor_99  post k5 x1 x3 x2 st)
def wX0_lawFor_94  (post : Int32 → CS → Prop) (k5 : Int32 → Int32 → Int32 → CS → Prop) (x1 : Int32) (x3 : Int32) (st : CS) : Prop := (wX0_lawFor_99  post k5 x1 x3 x3 st)
def wX0_lawFor_56  (post : Int32 → CS → Prop) (k5 : Int32 → Int32 → Int32 → CS → Prop) (x1 : Int32) (x2 : Int32) (x3 : Int32) (y0 : Int32) (st : CS) : Prop := ((y0 = 0 → (wX0_lawFor_98  post k5 x1 x2 x3 st)) ∧ (¬ y0 = 0 → ((x2 = (-9) → (wX0_lawFor_94  post k5 x1 x3 st)) ∧ (¬ x2 = (-9) → (vp_in ((6 * x3) + 1) 96 ∧ (vp_in ((6 * x2) + 1) 96 ∧ (((sA st 15 ((6 * x3) + 1).toNatClampNeg) < (sA st 15 ((6 * x2) + 1).toNatClampNeg) → (wX0_lawFor_98  post k5 x1 x2 x3 st)) ∧ (¬ (sA st 15 ((6 * x3) + 1).toNatClampNeg) < (sA st 15 ((6 * x2) + 1).toNatClampNeg) → (wX0_lawFor_94  post k5 x1 x3 st)))))))))
def wX0_lawFor_55  (post : Int32 → CS → Prop) (k5 : Int32 → Int32 → Int32 → CS → Prop) (x1 : Int32) (x2 : Int32) (x3 : Int32) (st : CS) : Prop := (wX0_lawFor_56  post k5 x1 x2 x3 0 st)
def wX0_lawFor_5  (post : Int32 → CS → Prop)  : Nat → Int32 → Int32 → Int32 → CS → Prop
  | 0 => fun _ _ _ _ => False
  | n + 1 => fun x1 x2 x3 st => (((sI st 14) ≤ x3 → (post x2 st)) ∧ (¬ (sI st 14) ≤ x3 → (vp_in (6 * x3) 96 ∧ (vp_in x1 24 ∧ (((sA st 15 (6 * x3).toNatClampNeg) = (sA st 7 x1.toNatClampNeg) → (vp_in ((6 * x3) + 1) 96 ∧ (vp_in x1 24 ∧ (((sA st 9 x1.toNatClampNeg) < (sA st 15 ((6 * x3) + 1).toNatClampNeg) → (wX0_lawFor_55  post (wX0_lawFor_5  post  n) x1 x2 x3 st)) ∧ (¬ (sA st 9 x1.toNatClampNeg) < (sA st 15 ((6 * x3) + 1).toNatClampNeg) → (wX0_lawFor_56  post (wX0_lawFor_5  post  n) x1 x2 x3 1 st)))))) ∧ (¬ (sA st 15 (6 * x3).toNatClampNeg) = (sA st 7 x1.toNatClampNeg) → (wX0_lawFor_55  post (wX0_lawFor_5  post  n) x1 x2 x3 st)))))))
def wpX0_lawFor  (post : Int32 → CS → Prop) (s0 : CS) (p0 : Int32) : Prop := (∃ fu : Nat, wX0_lawFor_5  post  fu p0 (-9) 0 s0)
set_option maxHeartbeats 4000000 in
theorem kX0_lawFor_99 (hX : ∀ U, E U → EL U) {post : Int32 → CS → Prop} {k5 : Int32 → Int32 → Int32 → CS → Prop} (F : Fx p s m args meth c cX0_lawFor 5 RX0 (some .int) D d E A) (hk5 : ∀ (x1 : Int32) (x2 : Int32) (x3 : Int32) (st : CS) (H : Heap) (locs : List Loc) (ls : Array Slot), k5 x1 x2 x3 st → Cx D (wX o ad d) A s st H locs → lv_has ls 5 [(0, .ref o), (1, .int x1), (2, .int x2), (3, .int x3)] → W p l e (headSpec (ws_ yX0_lawFor cX0_lawFor 5 (some .int)) rmX0_lawFor).room s m args below meth c H locs 0 0 (QI below D d E (wX o ad d) A args s 0 0 post) (F0 m 5 ls [])) : ∀ (x1 : Int32) (x3 : Int32) (y0 : Int32) (st : CS) (H : Heap) (locs : List Loc) (ls : Array Slot), wX0_lawFor_99  post k5 x1 x3 y0 st → Cx D (wX o ad d) A s st H locs → lv_has ls 5 [(0, .ref o), (1, .int x1), (3, .int x3)] → W p l e (headSpec (ws_ yX0_lawFor cX0_lawFor 5 (some .int)) rmX0_lawFor).room s m args below meth c H locs 0 0 (QI below D d E (wX o ad d) A args s 0 0 post) (F0 m 99 ls [.int y0]) := by
  obtain ⟨hx, hb, hr, hml, hown, hts, hlk, hA, hK, hE⟩ := id F
  intro x1 x3 y0 st H locs ls hw C hl
  unfold wX0_lawFor_99 at hw
  refine lv_istore_n (lv' := [(2, .int y0), (0, .ref o), (1, .int x1), (3, .int x3)]) hx hb dX0_lawFor_99 rfl hl (by decide) rfl (fun ls hl => ?_)
  obtain ⟨x3_6, ex3_6⟩ : ∃ y : Int32, y = x3 + 1 := ⟨_, rfl⟩
  have hw := hw x3_6 ex3_6
  refine lv_iinc (v := x3_6) (lv' := [(3, .int x3_6), (2, .int y0), (0, .ref o), (1, .int x1)]) hx hb dX0_lawFor_100 hl (k := 3) rfl (by rw [ex3_6]; rfl) (by decide) rfl (fun ls hl => ?_)
  refine lv_goto (tgt := 5) hx hb dX0_lawFor_103 (by decide) ?_
  exact hk5 x1 y0 x3_6 st _ _ _ hw C (lv_sub hl [2, 3, 1, 0] rfl)
set_option maxHeartbeats 4000000 in
theorem kX0_lawFor_98 (hX : ∀ U, E U → EL U) {post : Int32 → CS → Prop} {k5 : Int32 → Int32 → Int32 → CS → Prop} (F : Fx p s m args meth c cX0_lawFor 5 RX0 (some .int) D d E A) (hk5 : ∀ (x1 : Int32) (x2 : Int32) (x3 : Int32) (st : CS) (H : Heap) (locs : List Loc) (ls : Array Slot), k5 x1 x2 x3 st → Cx D (wX o ad d) A s st H locs → lv_has ls 5 [(0, .ref o), (1, .int x1), (2, .int x2), (3, .int x3)] → W p l e (headSpec (ws_ yX0_lawFor cX0_lawFor 5 (some .int)) rmX0_lawFor).room s m args below meth c H locs 0 0 (QI below D d E (wX o ad d) A args s 0 0 post) (F0 m 5 ls [])) : ∀ (x1 : Int32) (x2 : Int32) (x3 : Int32) (st : CS) (H : Heap) (locs : List Loc) (ls : Array Slot), wX0_lawFor_98  post k5 x1 x2 x3 st → Cx D (wX o ad d) A s st H locs → lv_has ls 5 [(0, .ref o), (1, .int x1), (2, .int x2), (3, .int x3)] → W p l e (headSpec (ws_ yX0_lawFor cX0_lawFor 5 (some .int)) rmX0_lawFor).room s m args below meth c H locs 0 0 (QI below D d E (wX o ad d) A args s 0 0 post) (F0 m 98 ls []) := by
  obtain ⟨hx, hb, hr, hml, hown, hts, hlk, hA, hK, hE⟩ := id F
  intro x1 x2 x3 st H locs ls hw C hl
  unfold wX0_lawFor_98 at hw
  refine lv_iload_n hx hb dX0_lawFor_98 rfl (lv_at hl 2 rfl) ?_
  exact kX0_lawFor_99 hX F hk5 x1 x3 x2 st _ _ _ hw C (lv_sub hl [0, 1, 3] rfl)
set_option maxHeartbeats 4000000 in
theorem kX0_lawFor_94 (hX : ∀ U, E U → EL U) {post : Int32 → CS → Prop} {k5 : Int32 → Int32 → Int32 → CS → Prop} (F : Fx p s m args meth c cX0_lawFor 5 RX0 (some .int) D d E A) (hk5 : ∀ (x1 : Int32) (x2 : Int32) (x3 : Int32) (st : CS) (H : Heap) (locs : List Loc) (ls : Array Slot), k5 x1 x2 x3 st → Cx D (wX o ad d) A s st H locs → lv_has ls 5 [(0, .ref o), (1, .int x1), (2, .int x2), (3, .int x3)] → W p l e (headSpec (ws_ yX0_lawFor cX0_lawFor 5 (some .int)) rmX0_lawFor).room s m args below meth c H locs 0 0 (QI below D d E (wX o ad d) A args s 0 0 post) (F0 m 5 ls [])) : ∀ (x1 : Int32) (x3 : Int32) (st : CS) (H : Heap) (locs : List Loc) (ls : Array Slot), wX0_lawFor_94  post k5 x1 x3 st → Cx D (wX o ad d) A s st H locs → lv_has ls 5 [(0, .ref o), (1, .int x1), (3, .int x3)] → W p l e (headSpec (ws_ yX0_lawFor cX0_lawFor 5 (some .int)) rmX0_lawFor).room s m args below meth c H locs 0 0 (QI below D d E (wX o ad d) A args s 0 0 post) (F0 m 94 ls []) := by
  obtain ⟨hx, hb, hr, hml, hown, hts, hlk, hA, hK, hE⟩ := id F
  intro x1 x3 st H locs ls hw C hl
  unfold wX0_lawFor_94 at hw
  refine lv_iload_n hx hb dX0_lawFor_94 rfl (lv_at hl 2 rfl) ?_
  refine lv_goto (tgt := 99) hx hb dX0_lawFor_95 (by decide) ?_
  exact kX0_lawFor_99 hX F hk5 x1 x3 x3 st _ _ _ hw C hl
set_option maxHeartbeats 4000000 in
theorem kX0_lawFor_56 (hX : ∀ U, E U → EL U) {post : Int32 → CS → Prop} {k5 : Int32 → Int32 → Int32 → CS → Prop} (F : Fx p s m args meth c cX0_lawFor 5 RX0 (some .int) D d E A) (hk5 : ∀ (x1 : Int32) (x2 : Int32) (x3 : Int32) (st : CS) (H : Heap) (locs : List Loc) (ls : Array Slot), k5 x1 x2 x3 st → Cx D (wX o ad d) A s st H locs → lv_has ls 5 [(0, .ref o), (1, .int x1), (2, .int x2), (3, .int x3)] → W p l e (headSpec (ws_ yX0_lawFor cX0_lawFor 5 (some .int)) rmX0_lawFor).room s m args below meth c H locs 0 0 (QI below D d E (wX o ad d) A args s 0 0 post) (F0 m 5 ls [])) : ∀ (x1 : Int32) (x2 : Int32) (x3 : Int32) (y0 : Int32) (st : CS) (H : Heap) (locs : List Loc) (ls : Array Slot), wX0_lawFor_56  post k5 x1 x2 x3 y0 st → Cx D (wX o ad d) A s st H locs → lv_has ls 5 [(0, .ref o), (1, .int x1), (2, .int x2), (3, .int x3)] → W p l e (headSpec (ws_ yX0_lawFor cX0_lawFor 5 (some .int)) rmX0_lawFor).room s m args below meth c H locs 0 0 (QI below D d E (wX o ad d) A args s 0 0 post) (F0 m 56 ls [.int y0]) := by
  obtain ⟨hx, hb, hr, hml, hown, hts, hlk, hA, hK, hE⟩ := id F
  intro x1 x2 x3 y0 st H locs ls hw C hl
  unfold wX0_lawFor_56 at hw
  refine lv_istore (lv' := [(4, .int y0), (0, .ref o), (1, .int x1), (2, .int x2), (3, .int x3)]) hx hb dX0_lawFor_56 hl (by decide) rfl (fun ls hl => ?_)
  refine lv_iload hx hb dX0_lawFor_58 (lv_at hl 0 rfl) ?_
  refine lv_if_eq (tgt := 98) hx hb dX0_lawFor_60 (by decide) (fun c_5 => ?_) (fun c_5 => ?_)
  · have hw := hw.1 c_5
    exact kX0_lawFor_98 hX F hk5 x1 x2 x3 st _ _ _ hw C (lv_sub hl [1, 2, 3, 4] rfl)
  · have hw := hw.2 c_5
    refine lv_iload_n hx hb dX0_lawFor_63 rfl (lv_at hl 3 rfl) ?_
    refine lv_bipush (v := (-9)) hx hb dX0_lawFor_64 (by decide) ?_
    refine lv_icmp_eq (tgt := 94) hx hb dX0_lawFor_66 (by decide) (fun c_7 => ?_) (fun c_7 => ?_)
    · have hw := hw.1 c_7
      exact kX0_lawFor_94 hX F hk5 x1 x3 st _ _ _ hw C (lv_sub hl [1, 2, 4] rfl)
    · have hw := hw.2 c_7
      refine lv_aload_n hx hb dX0_lawFor_69 rfl (lv_at hl 1 rfl) ?_
      refine x0_g15 F C dX0_lawFor_70 ?_
      refine lv_bipush (v := 6) hx hb dX0_lawFor_73 (by decide) ?_
      refine lv_iload_n hx hb dX0_lawFor_75 rfl (lv_at hl 4 rfl) ?_
      refine lv_imul hx hb dX0_lawFor_76 ?_
      refine lv_iconst (v := 1) hx hb dX0_lawFor_77 (by decide) ?_
      refine lv_iadd hx hb dX0_lawFor_78 ?_
      obtain ⟨h_8, hw⟩ := hw
      refine x0_ld15 F C h_8 dX0_lawFor_79 ?_
      refine lv_aload_n hx hb dX0_lawFor_80 rfl (lv_at hl 1 rfl) ?_
      refine x0_g15 F C dX0_lawFor_81 ?_
      refine lv_bipush (v := 6) hx hb dX0_lawFor_84 (by decide) ?_
      refine lv_iload_n hx hb dX0_lawFor_86 rfl (lv_at hl 3 rfl) ?_
      refine lv_imul hx hb dX0_lawFor_87 ?_
      refine lv_iconst (v := 1) hx hb dX0_lawFor_88 (by decide) ?_
      refine lv_iadd hx hb dX0_lawFor_89 ?_
      obtain ⟨h_9, hw⟩ := hw
      refine x0_ld15 F C h_9 dX0_lawFor_90 ?_
      refine lv_icmp_lt (tgt := 98) hx hb dX0_lawFor_91 (by decide) (fun c_10 => ?_) (fun c_10 => ?_)
      · have hw := hw.1 c_10
        exact kX0_lawFor_98 hX F hk5 x1 x2 x3 st _ _ _ hw C (lv_sub hl [1, 2, 3, 4] rfl)
      · have hw := hw.2 c_10
        exact kX0_lawFor_94 hX F hk5 x1 x3 st _ _ _ hw C (lv_sub hl [1, 2, 4] rfl)
set_option maxHeartbeats 4000000 in
theorem kX0_lawFor_55 (hX : ∀ U, E U → EL U) {post : Int32 → CS → Prop} {k5 : Int32 → Int32 → Int32 → CS → Prop} (F : Fx p s m args meth c cX0_lawFor 5 RX0 (some .int) D d E A) (hk5 : ∀ (x1 : Int32) (x2 : Int32) (x3 : Int32) (st : CS) (H : Heap) (locs : List Loc) (ls : Array Slot), k5 x1 x2 x3 st → Cx D (wX o ad d) A s st H locs → lv_has ls 5 [(0, .ref o), (1, .int x1), (2, .int x2), (3, .int x3)] → W p l e (headSpec (ws_ yX0_lawFor cX0_lawFor 5 (some .int)) rmX0_lawFor).room s m args below meth c H locs 0 0 (QI below D d E (wX o ad d) A args s 0 0 post) (F0 m 5 ls [])) : ∀ (x1 : Int32) (x2 : Int32) (x3 : Int32) (st : CS) (H : Heap) (locs : List Loc) (ls : Array Slot), wX0_lawFor_55  post k5 x1 x2 x3 st → Cx D (wX o ad d) A s st H locs → lv_has ls 5 [(0, .ref o), (1, .int x1), (2, .int x2), (3, .int x3)] → W p l e (headSpec (ws_ yX0_lawFor cX0_lawFor 5 (some .int)) rmX0_lawFor).room s m args below meth c H locs 0 0 (QI below D d E (wX o ad d) A args s 0 0 post) (F0 m 55 ls []) := by
  obtain ⟨hx, hb, hr, hml, hown, hts, hlk, hA, hK, hE⟩ := id F
  intro x1 x2 x3 st H locs ls hw C hl
  unfold wX0_lawFor_55 at hw
  refine lv_iconst (v := 0) hx hb dX0_lawFor_55 (by decide) ?_
  exact kX0_lawFor_56 hX F hk5 x1 x2 x3 0 st _ _ _ hw C hl
set_option maxHeartbeats 4000000 in
theorem kX0_lawFor_5 (hX : ∀ U, E U → EL U) {post : Int32 → CS → Prop}  (F : Fx p s m args meth c cX0_lawFor 5 RX0 (some .int) D d E A) : ∀ (fu : Nat) (x1 : Int32) (x2 : Int32) (x3 : Int32) (st : CS) (H : Heap) (locs : List Loc) (ls : Array Slot), wX0_lawFor_5  post  fu x1 x2 x3 st → Cx D (wX o ad d) A s st H locs → lv_has ls 5 [(0, .ref o), (1, .int x1), (2, .int x2), (3, .int x3)] → W p l e (headSpec (ws_ yX0_lawFor cX0_lawFor 5 (some .int)) rmX0_lawFor).room s m args below meth c H locs 0 0 (QI below D d E (wX o ad d) A args s 0 0 post) (F0 m 5 ls []) := by
  obtain ⟨hx, hb, hr, hml, hown, hts, hlk, hA, hK, hE⟩ := id F
  intro fu
  induction fu with
  | zero =>
    intro x1 x2 x3 st H locs ls hw
    exact hw.elim
  | succ n ih =>
    have hk5 := ih
    intro x1 x2 x3 st H locs ls hw C hl
    unfold wX0_lawFor_5 at hw
    refine lv_iload_n hx hb dX0_lawFor_5 rfl (lv_at hl 3 rfl) ?_
    refine lv_aload_n hx hb dX0_lawFor_6 rfl (lv_at hl 0 rfl) ?_
    refine x0_g14 F C dX0_lawFor_7 ?_
    refine lv_icmp_ge (tgt := 106) hx hb dX0_lawFor_10 (by decide) (fun c_1 => ?_) (fun c_1 => ?_)
    · have hw := hw.1 c_1
      refine lv_iload_n hx hb dX0_lawFor_106 rfl (lv_at hl 2 rfl) ?_
      exact x_iret F C hw dX0_lawFor_107
    · have hw := hw.2 c_1
      refine lv_aload_n hx hb dX0_lawFor_13 rfl (lv_at hl 0 rfl) ?_
      refine x0_g15 F C dX0_lawFor_14 ?_
      refine lv_bipush (v := 6) hx hb dX0_lawFor_17 (by decide) ?_
      refine lv_iload_n hx hb dX0_lawFor_19 rfl (lv_at hl 3 rfl) ?_
      refine lv_imul hx hb dX0_lawFor_20 ?_
      obtain ⟨h_2, hw⟩ := hw
      refine x0_ld15 F C h_2 dX0_lawFor_21 ?_
      refine lv_aload_n hx hb dX0_lawFor_22 rfl (lv_at hl 0 rfl) ?_
      refine x0_g7 F C dX0_lawFor_23 ?_
      refine lv_iload_n hx hb dX0_lawFor_26 rfl (lv_at hl 1 rfl) ?_
      obtain ⟨h_3, hw⟩ := hw
      refine x0_ld7 F C h_3 dX0_lawFor_27 ?_
      refine lv_icmp_ne (tgt := 55) hx hb dX0_lawFor_28 (by decide) (fun c_4 => ?_) (fun c_4 => ?_)
      · have hw := hw.2 c_4
        exact kX0_lawFor_55 hX F hk5 x1 x2 x3 st _ _ _ hw C hl
      · have hw := hw.1 c_4
        refine lv_aload_n hx hb dX0_lawFor_31 rfl (lv_at hl 0 rfl) ?_
        refine x0_g15 F C dX0_lawFor_32 ?_
        refine lv_bipush (v := 6) hx hb dX0_lawFor_35 (by decide) ?_
        refine lv_iload_n hx hb dX0_lawFor_37 rfl (lv_at hl 3 rfl) ?_
        refine lv_imul hx hb dX0_lawFor_38 ?_
        refine lv_iconst (v := 1) hx hb dX0_lawFor_39 (by decide) ?_
        refine lv_iadd hx hb dX0_lawFor_40 ?_
        obtain ⟨h_11, hw⟩ := hw
        refine x0_ld15 F C h_11 dX0_lawFor_41 ?_
        refine lv_aload_n hx hb dX0_lawFor_42 rfl (lv_at hl 0 rfl) ?_
        refine x0_g9 F C dX0_lawFor_43 ?_
        refine lv_iload_n hx hb dX0_lawFor_46 rfl (lv_at hl 1 rfl) ?_
        obtain ⟨h_12, hw⟩ := hw
        refine x0_ld9 F C h_12 dX0_lawFor_47 ?_
        refine lv_icmp_gt (tgt := 55) hx hb dX0_lawFor_48 (by decide) (fun c_13 => ?_) (fun c_13 => ?_)
        · have hw := hw.1 c_13
          exact kX0_lawFor_55 hX F hk5 x1 x2 x3 st _ _ _ hw C hl
        · have hw := hw.2 c_13
          refine lv_iconst (v := 1) hx hb dX0_lawFor_51 (by decide) ?_
          refine lv_goto (tgt := 56) hx hb dX0_lawFor_52 (by decide) ?_
          exact kX0_lawFor_56 hX F hk5 x1 x2 x3 1 st _ _ _ hw C hl
theorem ctX0_lawFor (hE : Em E) (hX : ∀ U, E U → EL U) {post : Int32 → CS → Prop} {s0 : CS} {p0 : Int32} (hw : wpX0_lawFor  post s0 p0) : CtI l yX0_lawFor (ws_ yX0_lawFor cX0_lawFor 5 (some .int)) rmX0_lawFor D d E (wX o ad d) 0 0 [.ref o, .int p0] s0 post := by
  refine CtI.of hE (by decide) rfl (Nat.le_of_ble_eq_true rfl) ?_
  intro p e s m below meth c A ls F C hl
  have hl : lv_has ls 5 [(0, .ref o), (1, .int p0)] := hl
  unfold wpX0_lawFor at hw
  obtain ⟨hx, hb, hr, hml, hown, hts, hlk, hA, hK, -⟩ := id F
  refine lv_bipush (v := (-9)) hx hb dX0_lawFor_0 (by decide) ?_
  refine lv_istore_n (lv' := [(2, .int (-9)), (0, .ref o), (1, .int p0)]) hx hb dX0_lawFor_2 rfl hl (by decide) rfl (fun ls hl => ?_)
  refine lv_iconst (v := 0) hx hb dX0_lawFor_3 (by decide) ?_
  refine lv_istore_n (lv' := [(3, .int 0), (2, .int (-9)), (0, .ref o), (1, .int p0)]) hx hb dX0_lawFor_4 rfl hl (by decide) rfl (fun ls hl => ?_)
  obtain ⟨fu, hw⟩ := hw
  exact kX0_lawFor_5 hX F  fu p0 (-9) 0 s0 _ _ _ hw C (lv_sub hl [2, 3, 1, 0] rfl)

abbrev rmX0_need : Room := { frames := 3, cells := 0, slots := 0, locals := 64 }
def wX0_need_12  (post : Int32 → CS → Prop)   (st : CS) : Prop := (post (-1) st)
def wpX0_need  (post : Int32 → CS → Prop) (s0 : CS) (p0 : Int32) (p1 : Int32) : Prop := (wpX0_isDead (fun r_2 s_1 => ((r_2 = 0 → (wX0_need_12  post  s_1)) ∧ (¬ r_2 = 0 → ((p0 = 0 → (wX0_need_12  post  s_1)) ∧ (¬ p0 = 0 → (wpX0_lawFor (fun r_6 s_5 => ((r_6 = (-9) → (post (-4) s_5)) ∧ (¬ r_6 = (-9) → (post 0 s_5)))) s_1 p1)))))) s0 p1)
set_option maxHeartbeats 4000000 in
theorem kX0_need_12 (hX : ∀ U, E U → EL U) {post : Int32 → CS → Prop}  (F : Fx p s m args meth c cX0_need 3 RX0 (some .int) D d E A) : ∀  (st : CS) (H : Heap) (locs : List Loc) (ls : Array Slot), wX0_need_12  post  st → Cx D (wX o ad d) A s st H locs → lv_has ls 3 [] → W p l e (headSpec (ws_ yX0_need cX0_need 3 (some .int)) rmX0_need).room s m args below meth c H locs 0 0 (QI below D d E (wX o ad d) A args s 0 0 post) (F0 m 12 ls []) := by
  obtain ⟨hx, hb, hr, hml, hown, hts, hlk, hA, hK, hE⟩ := id F
  intro st H locs ls hw C hl
  unfold wX0_need_12 at hw
  refine lv_iconst (v := (-1)) hx hb dX0_need_12 (by decide) ?_
  refine lv_goto (tgt := 32) hx hb dX0_need_13 (by decide) ?_
  exact x_iret F C hw dX0_need_32
theorem ctX0_need (hE : Em E) (hX : ∀ U, E U → EL U) {post : Int32 → CS → Prop} {s0 : CS} {p0 p1 : Int32} (hw : wpX0_need  post s0 p0 p1) : CtI l yX0_need (ws_ yX0_need cX0_need 3 (some .int)) rmX0_need D d E (wX o ad d) 0 0 [.ref o, .int p0, .int p1] s0 post := by
  refine CtI.of hE (by decide) rfl (Nat.le_of_ble_eq_true rfl) ?_
  intro p e s m below meth c A ls F C hl
  have hl : lv_has ls 3 [(0, .ref o), (1, .int p0), (2, .int p1)] := hl
  unfold wpX0_need at hw
  obtain ⟨hx, hb, hr, hml, hown, hts, hlk, hA, hK, -⟩ := id F
  refine lv_aload_n hx hb dX0_need_0 rfl (lv_at hl 0 rfl) ?_
  refine lv_iload_n hx hb dX0_need_1 rfl (lv_at hl 2 rfl) ?_
  refine x_callI (rest := []) (ci := 0) (q := (RX0, TX0, 41)) F C (ctX0_isDead hE hX hw) (cwV 1 hts (lw_V q512 q514 qs9 q70 q515) rfl rfl rfl (by decide +kernel) ⟨Nat.le_of_ble_eq_true rfl, Nat.le_of_ble_eq_true rfl⟩) rfl rfl rfl hl.1 rfl (Nat.le_of_ble_eq_true rfl) dX0_need_2 ⟨Nat.zero_le _, Nat.zero_le _⟩ (fun r_2 s_1 H locs hw C => ?_)
  refine lv_if_eq (tgt := 12) hx hb dX0_need_5 (by decide) (fun c_3 => ?_) (fun c_3 => ?_)
  · have hw := hw.1 c_3
    exact kX0_need_12 hX F  s_1 _ _ _ hw C (lv_sub hl [] rfl)
  · have hw := hw.2 c_3
    refine lv_iload_n hx hb dX0_need_8 rfl (lv_at hl 1 rfl) ?_
    refine lv_if_ne (tgt := 16) hx hb dX0_need_9 (by decide) (fun c_4 => ?_) (fun c_4 => ?_)
    · have hw := hw.2 c_4
      refine lv_aload_n hx hb dX0_need_16 rfl (lv_at hl 0 rfl) ?_
      refine lv_iload_n hx hb dX0_need_17 rfl (lv_at hl 2 rfl) ?_
      refine x_callI (rest := []) (ci := 0) (q := (RX0, TX0, 41)) F C (ctX0_lawFor hE hX hw) (cwV 1 hts (lw_V q516 q518 qs10 q70 q519) rfl rfl rfl (by decide +kernel) ⟨Nat.le_of_ble_eq_true rfl, Nat.le_of_ble_eq_true rfl⟩) rfl rfl rfl hl.1 rfl (Nat.le_of_ble_eq_true rfl) dX0_need_18 ⟨Nat.zero_le _, Nat.zero_le _⟩ (fun r_6 s_5 H locs hw C => ?_)
      refine lv_bipush (v := (-9)) hx hb dX0_need_21 (by decide) ?_
      refine lv_icmp_ne (tgt := 31) hx hb dX0_need_23 (by decide) (fun c_7 => ?_) (fun c_7 => ?_)
      · have hw := hw.2 c_7
        refine lv_iconst (v := 0) hx hb dX0_need_31 (by decide) ?_
        exact x_iret F C hw dX0_need_32
      · have hw := hw.1 c_7
        refine lv_bipush (v := (-4)) hx hb dX0_need_26 (by decide) ?_
        refine lv_goto (tgt := 32) hx hb dX0_need_28 (by decide) ?_
        exact x_iret F C hw dX0_need_32
    · have hw := hw.1 c_4
      exact kX0_need_12 hX F  s_1 _ _ _ hw C (lv_sub hl [] rfl)

abbrev rmX0_lawOf : Room := { frames := 4, cells := 0, slots := 0, locals := 86 }
def wpX0_lawOf  (post : Int32 → CS → Prop) (s0 : CS) (p0 : Int32) : Prop := (wpX0_need (fun r_2 s_1 => ((0 ≤ r_2 → (wpX0_lawFor (fun r_5 s_4 => (post r_5 s_4)) s_1 p0)) ∧ (¬ 0 ≤ r_2 → (post r_2 s_1)))) s0 1 p0)
theorem ctX0_lawOf (hE : Em E) (hX : ∀ U, E U → EL U) {post : Int32 → CS → Prop} {s0 : CS} {p0 : Int32} (hw : wpX0_lawOf  post s0 p0) : CtI l yX0_lawOf (ws_ yX0_lawOf cX0_lawOf 3 (some .int)) rmX0_lawOf D d E (wX o ad d) 0 0 [.ref o, .int p0] s0 post := by
  refine CtI.of hE (by decide) rfl (Nat.le_of_ble_eq_true rfl) ?_
  intro p e s m below meth c A ls F C hl
  have hl : lv_has ls 3 [(0, .ref o), (1, .int p0)] := hl
  unfold wpX0_lawOf at hw
  obtain ⟨hx, hb, hr, hml, hown, hts, hlk, hA, hK, -⟩ := id F
  refine lv_aload_n hx hb dX0_lawOf_0 rfl (lv_at hl 0 rfl) ?_
  refine lv_iconst (v := 1) hx hb dX0_lawOf_1 (by decide) ?_
  refine lv_iload_n hx hb dX0_lawOf_2 rfl (lv_at hl 1 rfl) ?_
  refine x_callI (rest := []) (ci := 0) (q := (RX0, TX0, 41)) F C (ctX0_need hE hX hw) (cwV 2 hts (lw_V q508 q510 qs8 q70 q511) rfl rfl rfl (by decide +kernel) ⟨Nat.le_of_ble_eq_true rfl, Nat.le_of_ble_eq_true rfl⟩) rfl rfl rfl hl.1 rfl (Nat.le_of_ble_eq_true rfl) dX0_lawOf_3 ⟨Nat.zero_le _, Nat.zero_le _⟩ (fun r_2 s_1 H locs hw C => ?_)
  refine lv_istore_n (lv' := [(2, .int r_2), (0, .ref o), (1, .int p0)]) hx hb dX0_lawOf_6 rfl hl (by decide) rfl (fun ls hl => ?_)
  refine lv_iload_n hx hb dX0_lawOf_7 rfl (lv_at hl 0 rfl) ?_
  refine lv_if_ge (tgt := 15) hx hb dX0_lawOf_8 (by decide) (fun c_3 => ?_) (fun c_3 => ?_)
  · have hw := hw.1 c_3
    refine lv_aload_n hx hb dX0_lawOf_15 rfl (lv_at hl 1 rfl) ?_
    refine lv_iload_n hx hb dX0_lawOf_16 rfl (lv_at hl 2 rfl) ?_
    refine x_callI (rest := []) (ci := 0) (q := (RX0, TX0, 41)) F C (ctX0_lawFor hE hX hw) (cwV 1 hts (lw_V q516 q518 qs10 q70 q519) rfl rfl rfl (by decide +kernel) ⟨Nat.le_of_ble_eq_true rfl, Nat.le_of_ble_eq_true rfl⟩) rfl rfl rfl hl.1 rfl (Nat.le_of_ble_eq_true rfl) dX0_lawOf_17 ⟨Nat.zero_le _, Nat.zero_le _⟩ (fun r_5 s_4 H locs hw C => ?_)
    exact x_iret F C hw dX0_lawOf_20
  · have hw := hw.2 c_3
    refine lv_iload_n hx hb dX0_lawOf_11 rfl (lv_at hl 0 rfl) ?_
    refine lv_goto (tgt := 20) hx hb dX0_lawOf_12 (by decide) ?_
    exact x_iret F C hw dX0_lawOf_20

abbrev rmX0_isOwner : Room := { frames := 2, cells := 0, slots := 0, locals := 43 }
def wX0_isOwner_14  (post : Int32 → CS → Prop)   (st : CS) : Prop := (post 1 st)
def wpX0_isOwner  (post : Int32 → CS → Prop) (s0 : CS) (p0 : Int32) : Prop := ((p0 = (-9) → (wX0_isOwner_14  post  s0)) ∧ (¬ p0 = (-9) → (wpX0_isPerson (fun r_3 s_2 => ((r_3 = 0 → (post 0 s_2)) ∧ (¬ r_3 = 0 → (wX0_isOwner_14  post  s_2)))) s0 p0)))
set_option maxHeartbeats 4000000 in
theorem kX0_isOwner_14 (hX : ∀ U, E U → EL U) {post : Int32 → CS → Prop}  (F : Fx p s m args meth c cX0_isOwner 2 RX0 (some .boolean) D d E A) : ∀  (st : CS) (H : Heap) (locs : List Loc) (ls : Array Slot), wX0_isOwner_14  post  st → Cx D (wX o ad d) A s st H locs → lv_has ls 2 [] → W p l e (headSpec (ws_ yX0_isOwner cX0_isOwner 2 (some .boolean)) rmX0_isOwner).room s m args below meth c H locs 0 0 (QI below D d E (wX o ad d) A args s 0 0 post) (F0 m 14 ls []) := by
  obtain ⟨hx, hb, hr, hml, hown, hts, hlk, hA, hK, hE⟩ := id F
  intro st H locs ls hw C hl
  unfold wX0_isOwner_14 at hw
  refine lv_iconst (v := 1) hx hb dX0_isOwner_14 (by decide) ?_
  refine lv_goto (tgt := 19) hx hb dX0_isOwner_15 (by decide) ?_
  exact x_zret F C zb_1 hw dX0_isOwner_19
theorem ctX0_isOwner (hE : Em E) (hX : ∀ U, E U → EL U) {post : Int32 → CS → Prop} {s0 : CS} {p0 : Int32} (hw : wpX0_isOwner  post s0 p0) : CtI l yX0_isOwner (ws_ yX0_isOwner cX0_isOwner 2 (some .boolean)) rmX0_isOwner D d E (wX o ad d) 0 0 [.ref o, .int p0] s0 post := by
  refine CtI.of hE (by decide) rfl (Nat.le_of_ble_eq_true rfl) ?_
  intro p e s m below meth c A ls F C hl
  have hl : lv_has ls 2 [(0, .ref o), (1, .int p0)] := hl
  unfold wpX0_isOwner at hw
  obtain ⟨hx, hb, hr, hml, hown, hts, hlk, hA, hK, -⟩ := id F
  refine lv_iload_n hx hb dX0_isOwner_0 rfl (lv_at hl 1 rfl) ?_
  refine lv_bipush (v := (-9)) hx hb dX0_isOwner_1 (by decide) ?_
  refine lv_icmp_eq (tgt := 14) hx hb dX0_isOwner_3 (by decide) (fun c_1 => ?_) (fun c_1 => ?_)
  · have hw := hw.1 c_1
    exact kX0_isOwner_14 hX F  s0 _ _ _ hw C (lv_sub hl [] rfl)
  · have hw := hw.2 c_1
    refine lv_aload_n hx hb dX0_isOwner_6 rfl (lv_at hl 0 rfl) ?_
    refine lv_iload_n hx hb dX0_isOwner_7 rfl (lv_at hl 1 rfl) ?_
    refine x_callI (rest := []) (ci := 0) (q := (RX0, TX0, 41)) F C (ctX0_isPerson hE hX hw) (cwV 1 hts (lw_V q251 q253 qs0 q70 q254) rfl rfl rfl (by decide +kernel) ⟨Nat.le_of_ble_eq_true rfl, Nat.le_of_ble_eq_true rfl⟩) rfl rfl rfl hl.1 rfl (Nat.le_of_ble_eq_true rfl) dX0_isOwner_8 ⟨Nat.zero_le _, Nat.zero_le _⟩ (fun r_3 s_2 H locs hw C => ?_)
    refine lv_if_eq (tgt := 18) hx hb dX0_isOwner_11 (by decide) (fun c_4 => ?_) (fun c_4 => ?_)
    · have hw := hw.1 c_4
      refine lv_iconst (v := 0) hx hb dX0_isOwner_18 (by decide) ?_
      exact x_zret F C zb_0 hw dX0_isOwner_19
    · have hw := hw.2 c_4
      exact kX0_isOwner_14 hX F  s_2 _ _ _ hw C (lv_sub hl [] rfl)

abbrev rmX0_takeAll : Room := { frames := 0, cells := 0, slots := 0, locals := 0 }
def wX0_takeAll_2  (post : CS → Prop)  : Nat → Int32 → Int32 → CS → Prop
  | 0 => fun _ _ _ => False
  | n + 1 => fun x1 x2 st => ((40 ≤ x2 → (post st)) ∧ (¬ 40 ≤ x2 → (vp_in x2 40 ∧ ∀ s_3 : CS, s_3 = uA st 18 x2.toNatClampNeg (vp_nar .boolean x1) → (∀ x2_4 : Int32, x2_4 = x2 + 1 → (wX0_takeAll_2  post  n x1 x2_4 s_3)))))
def wpX0_takeAll  (post : CS → Prop) (s0 : CS) (p0 : Int32) : Prop := (∃ fu : Nat, wX0_takeAll_2  post  fu p0 0 s0)
set_option maxHeartbeats 4000000 in
theorem kX0_takeAll_2 (hX : ∀ U, E U → EL U) {post : CS → Prop}  (F : Fx p s m args meth c cX0_takeAll 3 RX0 none D d E A) : ∀ (fu : Nat) (x1 : Int32) (x2 : Int32) (st : CS) (H : Heap) (locs : List Loc) (ls : Array Slot), wX0_takeAll_2  post  fu x1 x2 st → Cx D (wX o ad d) A s st H locs → lv_has ls 3 [(0, .ref o), (1, .int x1), (2, .int x2)] → W p l e (headSpec (ws_ yX0_takeAll cX0_takeAll 3 none) rmX0_takeAll).room s m args below meth c H locs 0 0 (QV below D d E (wX o ad d) A args s 0 0 post) (F0 m 2 ls []) := by
  obtain ⟨hx, hb, hr, hml, hown, hts, hlk, hA, hK, hE⟩ := id F
  intro fu
  induction fu with
  | zero =>
    intro x1 x2 st H locs ls hw
    exact hw.elim
  | succ n ih =>
    have hk2 := ih
    intro x1 x2 st H locs ls hw C hl
    unfold wX0_takeAll_2 at hw
    refine lv_iload_n hx hb dX0_takeAll_2 rfl (lv_at hl 2 rfl) ?_
    refine lv_bipush (v := 40) hx hb dX0_takeAll_3 (by decide) ?_
    refine lv_icmp_ge (tgt := 21) hx hb dX0_takeAll_5 (by decide) (fun c_1 => ?_) (fun c_1 => ?_)
    · have hw := hw.1 c_1
      exact x_vret F C hw dX0_takeAll_21
    · have hw := hw.2 c_1
      refine lv_aload_n hx hb dX0_takeAll_8 rfl (lv_at hl 0 rfl) ?_
      refine x0_g18 F C dX0_takeAll_9 ?_
      refine lv_iload_n hx hb dX0_takeAll_12 rfl (lv_at hl 2 rfl) ?_
      refine lv_iload_n hx hb dX0_takeAll_13 rfl (lv_at hl 1 rfl) ?_
      obtain ⟨h_2, hw⟩ := hw
      refine x0_st18 F C h_2 dX0_takeAll_14 (fun H locs s_3 es_3 C => ?_)
      have hw := hw s_3 es_3
      obtain ⟨x2_4, ex2_4⟩ : ∃ y : Int32, y = x2 + 1 := ⟨_, rfl⟩
      have hw := hw x2_4 ex2_4
      refine lv_iinc (v := x2_4) (lv' := [(2, .int x2_4), (0, .ref o), (1, .int x1)]) hx hb dX0_takeAll_15 hl (k := 2) rfl (by rw [ex2_4]; rfl) (by decide) rfl (fun ls hl => ?_)
      refine lv_goto (tgt := 2) hx hb dX0_takeAll_18 (by decide) ?_
      exact hk2 x1 x2_4 s_3 _ _ _ hw C (lv_sub hl [1, 2, 0] rfl)
theorem ctX0_takeAll (hE : Em E) (hX : ∀ U, E U → EL U) {post : CS → Prop} {s0 : CS} {p0 : Int32} (hw : wpX0_takeAll  post s0 p0) : CtV l yX0_takeAll (ws_ yX0_takeAll cX0_takeAll 3 none) rmX0_takeAll D d E (wX o ad d) 0 0 [.ref o, .int p0] s0 post := by
  refine CtV.of hE (by decide) rfl (Nat.le_of_ble_eq_true rfl) ?_
  intro p e s m below meth c A ls F C hl
  have hl : lv_has ls 3 [(0, .ref o), (1, .int p0)] := hl
  unfold wpX0_takeAll at hw
  obtain ⟨hx, hb, hr, hml, hown, hts, hlk, hA, hK, -⟩ := id F
  refine lv_iconst (v := 0) hx hb dX0_takeAll_0 (by decide) ?_
  refine lv_istore_n (lv' := [(2, .int 0), (0, .ref o), (1, .int p0)]) hx hb dX0_takeAll_1 rfl hl (by decide) rfl (fun ls hl => ?_)
  obtain ⟨fu, hw⟩ := hw
  exact kX0_takeAll_2 hX F  fu p0 0 s0 _ _ _ hw C (lv_sub hl [1, 2, 0] rfl)

abbrev rmX0_layEstate : Room := { frames := 3, cells := 0, slots := 0, locals := 60 }
def wX0_layEstate_202  (post : CS → Prop)  : Nat → Int32 → CS → Prop
  | 0 => fun _ _ => False
  | n + 1 => fun x2 st => ((24 < x2 → (post st)) ∧ (¬ 24 < x2 → (vp_in x2 25 ∧ ∀ s_9 : CS, s_9 = uM st 22 x2.toNatClampNeg 0 → (vp_in x2 25 ∧ ∀ s_11 : CS, s_11 = uM s_9 23 x2.toNatClampNeg 1 → (∀ x2_12 : Int32, x2_12 = x2 + 1 → (wX0_layEstate_202  post  n x2_12 s_11))))))
def wX0_layEstate_193  (post : CS → Prop) (k99 : Int32 → Int32 → CS → Prop) (x1 : Int32) (x2 : Int32) (y0 : Int32) (y1 : Int32) (st : CS) : Prop := (vp_in y1 40 ∧ ∀ s_20 : CS, s_20 = uA st 20 y1.toNatClampNeg (vp_nar .boolean y0) → (∀ x2_21 : Int32, x2_21 = x2 + 1 → (k99 x1 x2_21 s_20)))
def wX0_layEstate_192  (post : CS → Prop) (k99 : Int32 → Int32 → CS → Prop) (x1 : Int32) (x2 : Int32) (y0 : Int32) (st : CS) : Prop := (wX0_layEstate_193  post k99 x1 x2 0 y0 st)
def wX0_layEstate_174  (post : CS → Prop) (k99 : Int32 → Int32 → CS → Prop) (x1 : Int32) (x2 : Int32) (y0 : Int32) (y1 : Nat) (y2 : Int32) (st : CS) : Prop := (vp_in x1 24 ∧ (okE st y1 ∧ (((cntC (sE st y1).1 (sE st y1).2.2 y0 (sA st 9 x1.toNatClampNeg)) = 0 → (wX0_layEstate_192  post k99 x1 x2 y2 st)) ∧ (¬ (cntC (sE st y1).1 (sE st y1).2.2 y0 (sA st 9 x1.toNatClampNeg)) = 0 → (wX0_layEstate_193  post k99 x1 x2 1 y2 st)))))
def wX0_layEstate_153  (post : CS → Prop) (k99 : Int32 → Int32 → CS → Prop) (x1 : Int32) (x2 : Int32) (x3 : Nat) (y0 : Int32) (st : CS) : Prop := (vp_in ((sI st 17) + 4) 96 ∧ (((sA st 15 ((sI st 17) + 4).toNatClampNeg) = 1 → (wX0_layEstate_174  post k99 x1 x2 1 x3 y0 st)) ∧ (¬ (sA st 15 ((sI st 17) + 4).toNatClampNeg) = 1 → (wX0_layEstate_174  post k99 x1 x2 0 x3 y0 st))))
def wX0_layEstate_99  (post : CS → Prop)  : Nat → Int32 → Int32 → CS → Prop
  | 0 => fun _ _ _ => False
  | n + 1 => fun x1 x2 st => (((sI st 11) ≤ x2 → (∃ fu : Nat, wX0_layEstate_202  post  fu 0 st)) ∧ (¬ (sI st 11) ≤ x2 → (vp_in x2 40 ∧ ∃ a_14 : Nat, sR st 10 x2.toNatClampNeg = some a_14 ∧ (vp_in x2 40 ∧ ∃ a_16 : Nat, sR st 10 x2.toNatClampNeg = some a_16 ∧ (okE st a_16 ∧ ((((sE st a_16).2.2 2) = 0 → (vp_in x2 40 ∧ ∃ a_23 : Nat, sR st 10 x2.toNatClampNeg = some a_23 ∧ (okE st a_23 ∧ (((kindC (sE st a_23).1) = 1 → (vp_in x2 40 ∧ (((sA st 18 x2.toNatClampNeg) = 0 → (wX0_layEstate_192  post (wX0_layEstate_99  post  n) x1 x2 x2 st)) ∧ (¬ (sA st 18 x2.toNatClampNeg) = 0 → (wX0_layEstate_153  post (wX0_layEstate_99  post  n) x1 x2 a_14 x2 st))))) ∧ (¬ (kindC (sE st a_23).1) = 1 → (wX0_layEstate_153  post (wX0_layEstate_99  post  n) x1 x2 a_14 x2 st)))))) ∧ (¬ ((sE st a_16).2.2 2) = 0 → (wX0_layEstate_192  post (wX0_layEstate_99  post  n) x1 x2 x2 st))))))))
def wX0_layEstate_83  (post : CS → Prop) (k19 : Int32 → Int32 → CS → Prop) (x1 : Int32) (x2 : Int32) (y0 : Int32) (y1 : Int32) (st : CS) : Prop := (vp_in y1 24 ∧ ∀ s_35 : CS, s_35 = uA st 19 y1.toNatClampNeg (vp_nar .boolean y0) → (vp_in x2 24 ∧ ∀ s_37 : CS, s_37 = uA s_35 21 x2.toNatClampNeg 0 → (∀ x2_38 : Int32, x2_38 = x2 + 1 → (k19 x1 x2_38 s_37))))
def wX0_layEstate_82  (post : CS → Prop) (k19 : Int32 → Int32 → CS → Prop) (x1 : Int32) (x2 : Int32) (y0 : Int32) (st : CS) : Prop := (wX0_layEstate_83  post k19 x1 x2 0 y0 st)
def wX0_layEstate_78  (post : CS → Prop) (k19 : Int32 → Int32 → CS → Prop) (x1 : Int32) (x2 : Int32) (y0 : Int32) (st : CS) : Prop := (wX0_layEstate_83  post k19 x1 x2 1 y0 st)
def wX0_layEstate_19  (post : CS → Prop)  : Nat → Int32 → Int32 → CS → Prop
  | 0 => fun _ _ _ => False
  | n + 1 => fun x1 x2 st => (((sI st 6) ≤ x2 → (∃ fu : Nat, wX0_layEstate_99  post  fu x1 0 st)) ∧ (¬ (sI st 6) ≤ x2 → ((x2 = x1 → (wX0_layEstate_82  post (wX0_layEstate_19  post  n) x1 x2 x2 st)) ∧ (¬ x2 = x1 → (vp_in x2 24 ∧ (vp_in x1 24 ∧ (((sA st 9 x1.toNatClampNeg) < (sA st 8 x2.toNatClampNeg) → (wX0_layEstate_82  post (wX0_layEstate_19  post  n) x1 x2 x2 st)) ∧ (¬ (sA st 9 x1.toNatClampNeg) < (sA st 8 x2.toNatClampNeg) → (vp_in x2 24 ∧ (((sA st 9 x2.toNatClampNeg) = (-9) → (wX0_layEstate_78  post (wX0_layEstate_19  post  n) x1 x2 x2 st)) ∧ (¬ (sA st 9 x2.toNatClampNeg) = (-9) → (vp_in x2 24 ∧ (vp_in x1 24 ∧ (((sA st 9 x2.toNatClampNeg) ≤ (sA st 9 x1.toNatClampNeg) → (wX0_layEstate_82  post (wX0_layEstate_19  post  n) x1 x2 x2 st)) ∧ (¬ (sA st 9 x2.toNatClampNeg) ≤ (sA st 9 x1.toNatClampNeg) → (wX0_layEstate_78  post (wX0_layEstate_19  post  n) x1 x2 x2 st))))))))))))))))
def wpX0_layEstate  (post : CS → Prop) (s0 : CS) (p0 : Int32) : Prop := (∀ s_1 : CS, s_1 = uI s0 16 p0 → (wpX0_lawFor (fun r_3 s_2 => (∀ s_4 : CS, s_4 = uI s_2 17 (6 * r_3) → (∃ fu : Nat, wX0_layEstate_19  post  fu p0 0 s_4))) s_1 p0))
set_option maxHeartbeats 4000000 in
theorem kX0_layEstate_202 (hX : ∀ U, E U → EL U) {post : CS → Prop}  (F : Fx p s m args meth c cX0_layEstate 4 RX0 none D d E A) : ∀ (fu : Nat) (x2 : Int32) (st : CS) (H : Heap) (locs : List Loc) (ls : Array Slot), wX0_layEstate_202  post  fu x2 st → Cx D (wX o ad d) A s st H locs → lv_has ls 4 [(0, .ref o), (2, .int x2)] → W p l e (headSpec (ws_ yX0_layEstate cX0_layEstate 4 none) rmX0_layEstate).room s m args below meth c H locs 0 0 (QV below D d E (wX o ad d) A args s 0 0 post) (F0 m 202 ls []) := by
  obtain ⟨hx, hb, hr, hml, hown, hts, hlk, hA, hK, hE⟩ := id F
  intro fu
  induction fu with
  | zero =>
    intro x2 st H locs ls hw
    exact hw.elim
  | succ n ih =>
    have hk202 := ih
    intro x2 st H locs ls hw C hl
    unfold wX0_layEstate_202 at hw
    refine lv_iload_n hx hb dX0_layEstate_202 rfl (lv_at hl 1 rfl) ?_
    refine lv_bipush (v := 24) hx hb dX0_layEstate_203 (by decide) ?_
    refine lv_icmp_gt (tgt := 228) hx hb dX0_layEstate_205 (by decide) (fun c_7 => ?_) (fun c_7 => ?_)
    · have hw := hw.1 c_7
      exact x_vret F C hw dX0_layEstate_228
    · have hw := hw.2 c_7
      refine lv_aload_n hx hb dX0_layEstate_208 rfl (lv_at hl 0 rfl) ?_
      refine x0_g22 F C dX0_layEstate_209 ?_
      refine lv_iload_n hx hb dX0_layEstate_212 rfl (lv_at hl 1 rfl) ?_
      refine lv_lconst (v := 0) hx hb dX0_layEstate_213 (by decide) ?_
      obtain ⟨h_8, hw⟩ := hw
      refine x0_st22 F C h_8 dX0_layEstate_214 (fun H locs s_9 es_9 C => ?_)
      have hw := hw s_9 es_9
      refine lv_aload_n hx hb dX0_layEstate_215 rfl (lv_at hl 0 rfl) ?_
      refine x0_g23 F C dX0_layEstate_216 ?_
      refine lv_iload_n hx hb dX0_layEstate_219 rfl (lv_at hl 1 rfl) ?_
      refine lv_lconst (v := 1) hx hb dX0_layEstate_220 (by decide) ?_
      obtain ⟨h_10, hw⟩ := hw
      refine x0_st23 F C h_10 dX0_layEstate_221 (fun H locs s_11 es_11 C => ?_)
      have hw := hw s_11 es_11
      obtain ⟨x2_12, ex2_12⟩ : ∃ y : Int32, y = x2 + 1 := ⟨_, rfl⟩
      have hw := hw x2_12 ex2_12
      refine lv_iinc (v := x2_12) (lv' := [(2, .int x2_12), (0, .ref o)]) hx hb dX0_layEstate_222 hl (k := 1) rfl (by rw [ex2_12]; rfl) (by decide) rfl (fun ls hl => ?_)
      refine lv_goto (tgt := 202) hx hb dX0_layEstate_225 (by decide) ?_
      exact hk202 x2_12 s_11 _ _ _ hw C (lv_sub hl [1, 0] rfl)
set_option maxHeartbeats 4000000 in
theorem kX0_layEstate_193 (hX : ∀ U, E U → EL U) {post : CS → Prop} {k99 : Int32 → Int32 → CS → Prop} (F : Fx p s m args meth c cX0_layEstate 4 RX0 none D d E A) (hk99 : ∀ (x1 : Int32) (x2 : Int32) (st : CS) (H : Heap) (locs : List Loc) (ls : Array Slot), k99 x1 x2 st → Cx D (wX o ad d) A s st H locs → lv_has ls 4 [(0, .ref o), (1, .int x1), (2, .int x2)] → W p l e (headSpec (ws_ yX0_layEstate cX0_layEstate 4 none) rmX0_layEstate).room s m args below meth c H locs 0 0 (QV below D d E (wX o ad d) A args s 0 0 post) (F0 m 99 ls [])) : ∀ (x1 : Int32) (x2 : Int32) (y0 : Int32) (y1 : Int32) (st : CS) (H : Heap) (locs : List Loc) (ls : Array Slot), wX0_layEstate_193  post k99 x1 x2 y0 y1 st → Cx D (wX o ad d) A s st H locs → lv_has ls 4 [(0, .ref o), (1, .int x1), (2, .int x2)] → W p l e (headSpec (ws_ yX0_layEstate cX0_layEstate 4 none) rmX0_layEstate).room s m args below meth c H locs 0 0 (QV below D d E (wX o ad d) A args s 0 0 post) (F0 m 193 ls [.int y0, .int y1, .ref (ad 20)]) := by
  obtain ⟨hx, hb, hr, hml, hown, hts, hlk, hA, hK, hE⟩ := id F
  intro x1 x2 y0 y1 st H locs ls hw C hl
  unfold wX0_layEstate_193 at hw
  obtain ⟨h_19, hw⟩ := hw
  refine x0_st20 F C h_19 dX0_layEstate_193 (fun H locs s_20 es_20 C => ?_)
  have hw := hw s_20 es_20
  obtain ⟨x2_21, ex2_21⟩ : ∃ y : Int32, y = x2 + 1 := ⟨_, rfl⟩
  have hw := hw x2_21 ex2_21
  refine lv_iinc (v := x2_21) (lv' := [(2, .int x2_21), (0, .ref o), (1, .int x1)]) hx hb dX0_layEstate_194 hl (k := 2) rfl (by rw [ex2_21]; rfl) (by decide) rfl (fun ls hl => ?_)
  refine lv_goto (tgt := 99) hx hb dX0_layEstate_197 (by decide) ?_
  exact hk99 x1 x2_21 s_20 _ _ _ hw C (lv_sub hl [1, 2, 0] rfl)
set_option maxHeartbeats 4000000 in
theorem kX0_layEstate_192 (hX : ∀ U, E U → EL U) {post : CS → Prop} {k99 : Int32 → Int32 → CS → Prop} (F : Fx p s m args meth c cX0_layEstate 4 RX0 none D d E A) (hk99 : ∀ (x1 : Int32) (x2 : Int32) (st : CS) (H : Heap) (locs : List Loc) (ls : Array Slot), k99 x1 x2 st → Cx D (wX o ad d) A s st H locs → lv_has ls 4 [(0, .ref o), (1, .int x1), (2, .int x2)] → W p l e (headSpec (ws_ yX0_layEstate cX0_layEstate 4 none) rmX0_layEstate).room s m args below meth c H locs 0 0 (QV below D d E (wX o ad d) A args s 0 0 post) (F0 m 99 ls [])) : ∀ (x1 : Int32) (x2 : Int32) (y0 : Int32) (st : CS) (H : Heap) (locs : List Loc) (ls : Array Slot), wX0_layEstate_192  post k99 x1 x2 y0 st → Cx D (wX o ad d) A s st H locs → lv_has ls 4 [(0, .ref o), (1, .int x1), (2, .int x2)] → W p l e (headSpec (ws_ yX0_layEstate cX0_layEstate 4 none) rmX0_layEstate).room s m args below meth c H locs 0 0 (QV below D d E (wX o ad d) A args s 0 0 post) (F0 m 192 ls [.int y0, .ref (ad 20)]) := by
  obtain ⟨hx, hb, hr, hml, hown, hts, hlk, hA, hK, hE⟩ := id F
  intro x1 x2 y0 st H locs ls hw C hl
  unfold wX0_layEstate_192 at hw
  refine lv_iconst (v := 0) hx hb dX0_layEstate_192 (by decide) ?_
  exact kX0_layEstate_193 hX F hk99 x1 x2 0 y0 st _ _ _ hw C hl
set_option maxHeartbeats 4000000 in
theorem kX0_layEstate_174 (hX : ∀ U, E U → EL U) {post : CS → Prop} {k99 : Int32 → Int32 → CS → Prop} (F : Fx p s m args meth c cX0_layEstate 4 RX0 none D d E A) (hk99 : ∀ (x1 : Int32) (x2 : Int32) (st : CS) (H : Heap) (locs : List Loc) (ls : Array Slot), k99 x1 x2 st → Cx D (wX o ad d) A s st H locs → lv_has ls 4 [(0, .ref o), (1, .int x1), (2, .int x2)] → W p l e (headSpec (ws_ yX0_layEstate cX0_layEstate 4 none) rmX0_layEstate).room s m args below meth c H locs 0 0 (QV below D d E (wX o ad d) A args s 0 0 post) (F0 m 99 ls [])) : ∀ (x1 : Int32) (x2 : Int32) (y0 : Int32) (y1 : Nat) (y2 : Int32) (st : CS) (H : Heap) (locs : List Loc) (ls : Array Slot), wX0_layEstate_174  post k99 x1 x2 y0 y1 y2 st → Cx D (wX o ad d) A s st H locs → lv_has ls 4 [(0, .ref o), (1, .int x1), (2, .int x2)] → W p l e (headSpec (ws_ yX0_layEstate cX0_layEstate 4 none) rmX0_layEstate).room s m args below meth c H locs 0 0 (QV below D d E (wX o ad d) A args s 0 0 post) (F0 m 174 ls [.int y0, .ref y1, .int y2, .ref (ad 20)]) := by
  obtain ⟨hx, hb, hr, hml, hown, hts, hlk, hA, hK, hE⟩ := id F
  intro x1 x2 y0 y1 y2 st H locs ls hw C hl
  unfold wX0_layEstate_174 at hw
  refine lv_aload_n hx hb dX0_layEstate_174 rfl (lv_at hl 0 rfl) ?_
  refine x0_g9 F C dX0_layEstate_175 ?_
  refine lv_iload_n hx hb dX0_layEstate_178 rfl (lv_at hl 1 rfl) ?_
  obtain ⟨h_28, hw⟩ := hw
  refine x0_ld9 F C h_28 dX0_layEstate_179 ?_
  obtain ⟨h_29, hw⟩ := hw
  refine x0_counts (rest := [.int y2, .ref (ad 20)]) hX F C h_29 ⟨Nat.le_of_ble_eq_true rfl, Nat.le_of_ble_eq_true rfl⟩ hl.1 (Nat.le_of_ble_eq_true rfl) dX0_layEstate_180 ⟨Nat.zero_le _, Nat.zero_le _⟩ (fun H locs C => ?_)
  refine lv_if_eq (tgt := 192) hx hb dX0_layEstate_185 (by decide) (fun c_30 => ?_) (fun c_30 => ?_)
  · have hw := hw.1 c_30
    exact kX0_layEstate_192 hX F hk99 x1 x2 y2 st _ _ _ hw C hl
  · have hw := hw.2 c_30
    refine lv_iconst (v := 1) hx hb dX0_layEstate_188 (by decide) ?_
    refine lv_goto (tgt := 193) hx hb dX0_layEstate_189 (by decide) ?_
    exact kX0_layEstate_193 hX F hk99 x1 x2 1 y2 st _ _ _ hw C hl
set_option maxHeartbeats 4000000 in
theorem kX0_layEstate_153 (hX : ∀ U, E U → EL U) {post : CS → Prop} {k99 : Int32 → Int32 → CS → Prop} (F : Fx p s m args meth c cX0_layEstate 4 RX0 none D d E A) (hk99 : ∀ (x1 : Int32) (x2 : Int32) (st : CS) (H : Heap) (locs : List Loc) (ls : Array Slot), k99 x1 x2 st → Cx D (wX o ad d) A s st H locs → lv_has ls 4 [(0, .ref o), (1, .int x1), (2, .int x2)] → W p l e (headSpec (ws_ yX0_layEstate cX0_layEstate 4 none) rmX0_layEstate).room s m args below meth c H locs 0 0 (QV below D d E (wX o ad d) A args s 0 0 post) (F0 m 99 ls [])) : ∀ (x1 : Int32) (x2 : Int32) (x3 : Nat) (y0 : Int32) (st : CS) (H : Heap) (locs : List Loc) (ls : Array Slot), wX0_layEstate_153  post k99 x1 x2 x3 y0 st → Cx D (wX o ad d) A s st H locs → lv_has ls 4 [(0, .ref o), (1, .int x1), (2, .int x2), (3, .ref x3)] → W p l e (headSpec (ws_ yX0_layEstate cX0_layEstate 4 none) rmX0_layEstate).room s m args below meth c H locs 0 0 (QV below D d E (wX o ad d) A args s 0 0 post) (F0 m 153 ls [.int y0, .ref (ad 20)]) := by
  obtain ⟨hx, hb, hr, hml, hown, hts, hlk, hA, hK, hE⟩ := id F
  intro x1 x2 x3 y0 st H locs ls hw C hl
  unfold wX0_layEstate_153 at hw
  refine lv_aload_n hx hb dX0_layEstate_153 rfl (lv_at hl 3 rfl) ?_
  refine lv_aload_n hx hb dX0_layEstate_154 rfl (lv_at hl 0 rfl) ?_
  refine x0_g15 F C dX0_layEstate_155 ?_
  refine lv_aload_n hx hb dX0_layEstate_158 rfl (lv_at hl 0 rfl) ?_
  refine x0_g17 F C dX0_layEstate_159 ?_
  refine lv_iconst (v := 4) hx hb dX0_layEstate_162 (by decide) ?_
  refine lv_iadd hx hb dX0_layEstate_163 ?_
  obtain ⟨h_26, hw⟩ := hw
  refine x0_ld15 F C h_26 dX0_layEstate_164 ?_
  refine lv_iconst (v := 1) hx hb dX0_layEstate_165 (by decide) ?_
  refine lv_icmp_ne (tgt := 173) hx hb dX0_layEstate_166 (by decide) (fun c_27 => ?_) (fun c_27 => ?_)
  · have hw := hw.2 c_27
    refine lv_iconst (v := 0) hx hb dX0_layEstate_173 (by decide) ?_
    exact kX0_layEstate_174 hX F hk99 x1 x2 0 x3 y0 st _ _ _ hw C (lv_sub hl [0, 1, 2] rfl)
  · have hw := hw.1 c_27
    refine lv_iconst (v := 1) hx hb dX0_layEstate_169 (by decide) ?_
    refine lv_goto (tgt := 174) hx hb dX0_layEstate_170 (by decide) ?_
    exact kX0_layEstate_174 hX F hk99 x1 x2 1 x3 y0 st _ _ _ hw C (lv_sub hl [0, 1, 2] rfl)
set_option maxHeartbeats 4000000 in
theorem kX0_layEstate_99 (hX : ∀ U, E U → EL U) {post : CS → Prop}  (F : Fx p s m args meth c cX0_layEstate 4 RX0 none D d E A) : ∀ (fu : Nat) (x1 : Int32) (x2 : Int32) (st : CS) (H : Heap) (locs : List Loc) (ls : Array Slot), wX0_layEstate_99  post  fu x1 x2 st → Cx D (wX o ad d) A s st H locs → lv_has ls 4 [(0, .ref o), (1, .int x1), (2, .int x2)] → W p l e (headSpec (ws_ yX0_layEstate cX0_layEstate 4 none) rmX0_layEstate).room s m args below meth c H locs 0 0 (QV below D d E (wX o ad d) A args s 0 0 post) (F0 m 99 ls []) := by
  obtain ⟨hx, hb, hr, hml, hown, hts, hlk, hA, hK, hE⟩ := id F
  intro fu
  induction fu with
  | zero =>
    intro x1 x2 st H locs ls hw
    exact hw.elim
  | succ n ih =>
    have hk99 := ih
    intro x1 x2 st H locs ls hw C hl
    unfold wX0_layEstate_99 at hw
    refine lv_iload_n hx hb dX0_layEstate_99 rfl (lv_at hl 2 rfl) ?_
    refine lv_aload_n hx hb dX0_layEstate_100 rfl (lv_at hl 0 rfl) ?_
    refine x0_g11 F C dX0_layEstate_101 ?_
    refine lv_icmp_ge (tgt := 200) hx hb dX0_layEstate_104 (by decide) (fun c_6 => ?_) (fun c_6 => ?_)
    · have hw := hw.1 c_6
      refine lv_iconst (v := 0) hx hb dX0_layEstate_200 (by decide) ?_
      refine lv_istore_n (lv' := [(2, .int 0), (0, .ref o), (1, .int x1)]) hx hb dX0_layEstate_201 rfl hl (by decide) rfl (fun ls hl => ?_)
      obtain ⟨fu, hw⟩ := hw
      exact kX0_layEstate_202 hX F  fu 0 st _ _ _ hw C (lv_sub hl [1, 0] rfl)
    · have hw := hw.2 c_6
      refine lv_aload_n hx hb dX0_layEstate_107 rfl (lv_at hl 0 rfl) ?_
      refine x0_g10 F C dX0_layEstate_108 ?_
      refine lv_iload_n hx hb dX0_layEstate_111 rfl (lv_at hl 2 rfl) ?_
      obtain ⟨h_13, a_14, ha_14, hw⟩ := hw
      refine x0_ldL F C h_13 ha_14 dX0_layEstate_112 ?_
      refine lv_astore_n (lv' := [(3, .ref a_14), (0, .ref o), (1, .int x1), (2, .int x2)]) hx hb dX0_layEstate_113 rfl hl (by decide) rfl (fun ls hl => ?_)
      refine lv_aload_n hx hb dX0_layEstate_114 rfl (lv_at hl 1 rfl) ?_
      refine x0_g20 F C dX0_layEstate_115 ?_
      refine lv_iload_n hx hb dX0_layEstate_118 rfl (lv_at hl 3 rfl) ?_
      refine lv_aload_n hx hb dX0_layEstate_119 rfl (lv_at hl 1 rfl) ?_
      refine x0_g10 F C dX0_layEstate_120 ?_
      refine lv_iload_n hx hb dX0_layEstate_123 rfl (lv_at hl 3 rfl) ?_
      obtain ⟨h_15, a_16, ha_16, hw⟩ := hw
      refine x0_ldL F C h_15 ha_16 dX0_layEstate_124 ?_
      obtain ⟨h_17, hw⟩ := hw
      refine x0_gL2 F C h_17 dX0_layEstate_125 ?_
      refine lv_if_ne (tgt := 192) hx hb dX0_layEstate_128 (by decide) (fun c_18 => ?_) (fun c_18 => ?_)
      · have hw := hw.2 c_18
        exact kX0_layEstate_192 hX F hk99 x1 x2 x2 st _ _ _ hw C (lv_sub hl [1, 2, 3] rfl)
      · have hw := hw.1 c_18
        refine lv_aload_n hx hb dX0_layEstate_131 rfl (lv_at hl 1 rfl) ?_
        refine x0_g10 F C dX0_layEstate_132 ?_
        refine lv_iload_n hx hb dX0_layEstate_135 rfl (lv_at hl 3 rfl) ?_
        obtain ⟨h_22, a_23, ha_23, hw⟩ := hw
        refine x0_ldL F C h_22 ha_23 dX0_layEstate_136 ?_
        obtain ⟨h_24, hw⟩ := hw
        refine x0_kind (rest := [.int x2, .ref (ad 20)]) F C h_24 ⟨Nat.le_of_ble_eq_true rfl, Nat.le_of_ble_eq_true rfl⟩ hl.1 (Nat.le_of_ble_eq_true rfl) dX0_layEstate_137 ⟨Nat.zero_le _, Nat.zero_le _⟩ (fun H locs C => ?_)
        refine lv_iconst (v := 1) hx hb dX0_layEstate_140 (by decide) ?_
        refine lv_icmp_ne (tgt := 153) hx hb dX0_layEstate_141 (by decide) (fun c_25 => ?_) (fun c_25 => ?_)
        · have hw := hw.2 c_25
          exact kX0_layEstate_153 hX F hk99 x1 x2 a_14 x2 st _ _ _ hw C (lv_sub hl [1, 2, 3, 0] rfl)
        · have hw := hw.1 c_25
          refine lv_aload_n hx hb dX0_layEstate_144 rfl (lv_at hl 1 rfl) ?_
          refine x0_g18 F C dX0_layEstate_145 ?_
          refine lv_iload_n hx hb dX0_layEstate_148 rfl (lv_at hl 3 rfl) ?_
          obtain ⟨h_31, hw⟩ := hw
          refine x0_ld18 F C h_31 dX0_layEstate_149 ?_
          refine lv_if_eq (tgt := 192) hx hb dX0_layEstate_150 (by decide) (fun c_32 => ?_) (fun c_32 => ?_)
          · have hw := hw.1 c_32
            exact kX0_layEstate_192 hX F hk99 x1 x2 x2 st _ _ _ hw C (lv_sub hl [1, 2, 3] rfl)
          · have hw := hw.2 c_32
            exact kX0_layEstate_153 hX F hk99 x1 x2 a_14 x2 st _ _ _ hw C (lv_sub hl [1, 2, 3, 0] rfl)
set_option maxHeartbeats 4000000 in
theorem kX0_layEstate_83 (hX : ∀ U, E U → EL U) {post : CS → Prop} {k19 : Int32 → Int32 → CS → Prop} (F : Fx p s m args meth c cX0_layEstate 4 RX0 none D d E A) (hk19 : ∀ (x1 : Int32) (x2 : Int32) (st : CS) (H : Heap) (locs : List Loc) (ls : Array Slot), k19 x1 x2 st → Cx D (wX o ad d) A s st H locs → lv_has ls 4 [(0, .ref o), (1, .int x1), (2, .int x2)] → W p l e (headSpec (ws_ yX0_layEstate cX0_layEstate 4 none) rmX0_layEstate).room s m args below meth c H locs 0 0 (QV below D d E (wX o ad d) A args s 0 0 post) (F0 m 19 ls [])) : ∀ (x1 : Int32) (x2 : Int32) (y0 : Int32) (y1 : Int32) (st : CS) (H : Heap) (locs : List Loc) (ls : Array Slot), wX0_layEstate_83  post k19 x1 x2 y0 y1 st → Cx D (wX o ad d) A s st H locs → lv_has ls 4 [(0, .ref o), (1, .int x1), (2, .int x2)] → W p l e (headSpec (ws_ yX0_layEstate cX0_layEstate 4 none) rmX0_layEstate).room s m args below meth c H locs 0 0 (QV below D d E (wX o ad d) A args s 0 0 post) (F0 m 83 ls [.int y0, .int y1, .ref (ad 19)]) := by
  obtain ⟨hx, hb, hr, hml, hown, hts, hlk, hA, hK, hE⟩ := id F
  intro x1 x2 y0 y1 st H locs ls hw C hl
  unfold wX0_layEstate_83 at hw
  obtain ⟨h_34, hw⟩ := hw
  refine x0_st19 F C h_34 dX0_layEstate_83 (fun H locs s_35 es_35 C => ?_)
  have hw := hw s_35 es_35
  refine lv_aload_n hx hb dX0_layEstate_84 rfl (lv_at hl 0 rfl) ?_
  refine x0_g21 F C dX0_layEstate_85 ?_
  refine lv_iload_n hx hb dX0_layEstate_88 rfl (lv_at hl 2 rfl) ?_
  refine lv_iconst (v := 0) hx hb dX0_layEstate_89 (by decide) ?_
  obtain ⟨h_36, hw⟩ := hw
  refine x0_st21 F C h_36 dX0_layEstate_90 (fun H locs s_37 es_37 C => ?_)
  have hw := hw s_37 es_37
  obtain ⟨x2_38, ex2_38⟩ : ∃ y : Int32, y = x2 + 1 := ⟨_, rfl⟩
  have hw := hw x2_38 ex2_38
  refine lv_iinc (v := x2_38) (lv' := [(2, .int x2_38), (0, .ref o), (1, .int x1)]) hx hb dX0_layEstate_91 hl (k := 2) rfl (by rw [ex2_38]; rfl) (by decide) rfl (fun ls hl => ?_)
  refine lv_goto (tgt := 19) hx hb dX0_layEstate_94 (by decide) ?_
  exact hk19 x1 x2_38 s_37 _ _ _ hw C (lv_sub hl [1, 2, 0] rfl)
set_option maxHeartbeats 4000000 in
theorem kX0_layEstate_82 (hX : ∀ U, E U → EL U) {post : CS → Prop} {k19 : Int32 → Int32 → CS → Prop} (F : Fx p s m args meth c cX0_layEstate 4 RX0 none D d E A) (hk19 : ∀ (x1 : Int32) (x2 : Int32) (st : CS) (H : Heap) (locs : List Loc) (ls : Array Slot), k19 x1 x2 st → Cx D (wX o ad d) A s st H locs → lv_has ls 4 [(0, .ref o), (1, .int x1), (2, .int x2)] → W p l e (headSpec (ws_ yX0_layEstate cX0_layEstate 4 none) rmX0_layEstate).room s m args below meth c H locs 0 0 (QV below D d E (wX o ad d) A args s 0 0 post) (F0 m 19 ls [])) : ∀ (x1 : Int32) (x2 : Int32) (y0 : Int32) (st : CS) (H : Heap) (locs : List Loc) (ls : Array Slot), wX0_layEstate_82  post k19 x1 x2 y0 st → Cx D (wX o ad d) A s st H locs → lv_has ls 4 [(0, .ref o), (1, .int x1), (2, .int x2)] → W p l e (headSpec (ws_ yX0_layEstate cX0_layEstate 4 none) rmX0_layEstate).room s m args below meth c H locs 0 0 (QV below D d E (wX o ad d) A args s 0 0 post) (F0 m 82 ls [.int y0, .ref (ad 19)]) := by
  obtain ⟨hx, hb, hr, hml, hown, hts, hlk, hA, hK, hE⟩ := id F
  intro x1 x2 y0 st H locs ls hw C hl
  unfold wX0_layEstate_82 at hw
  refine lv_iconst (v := 0) hx hb dX0_layEstate_82 (by decide) ?_
  exact kX0_layEstate_83 hX F hk19 x1 x2 0 y0 st _ _ _ hw C hl
set_option maxHeartbeats 4000000 in
theorem kX0_layEstate_78 (hX : ∀ U, E U → EL U) {post : CS → Prop} {k19 : Int32 → Int32 → CS → Prop} (F : Fx p s m args meth c cX0_layEstate 4 RX0 none D d E A) (hk19 : ∀ (x1 : Int32) (x2 : Int32) (st : CS) (H : Heap) (locs : List Loc) (ls : Array Slot), k19 x1 x2 st → Cx D (wX o ad d) A s st H locs → lv_has ls 4 [(0, .ref o), (1, .int x1), (2, .int x2)] → W p l e (headSpec (ws_ yX0_layEstate cX0_layEstate 4 none) rmX0_layEstate).room s m args below meth c H locs 0 0 (QV below D d E (wX o ad d) A args s 0 0 post) (F0 m 19 ls [])) : ∀ (x1 : Int32) (x2 : Int32) (y0 : Int32) (st : CS) (H : Heap) (locs : List Loc) (ls : Array Slot), wX0_layEstate_78  post k19 x1 x2 y0 st → Cx D (wX o ad d) A s st H locs → lv_has ls 4 [(0, .ref o), (1, .int x1), (2, .int x2)] → W p l e (headSpec (ws_ yX0_layEstate cX0_layEstate 4 none) rmX0_layEstate).room s m args below meth c H locs 0 0 (QV below D d E (wX o ad d) A args s 0 0 post) (F0 m 78 ls [.int y0, .ref (ad 19)]) := by
  obtain ⟨hx, hb, hr, hml, hown, hts, hlk, hA, hK, hE⟩ := id F
  intro x1 x2 y0 st H locs ls hw C hl
  unfold wX0_layEstate_78 at hw
  refine lv_iconst (v := 1) hx hb dX0_layEstate_78 (by decide) ?_
  refine lv_goto (tgt := 83) hx hb dX0_layEstate_79 (by decide) ?_
  exact kX0_layEstate_83 hX F hk19 x1 x2 1 y0 st _ _ _ hw C hl
set_option maxHeartbeats 4000000 in
theorem kX0_layEstate_19 (hX : ∀ U, E U → EL U) {post : CS → Prop}  (F : Fx p s m args meth c cX0_layEstate 4 RX0 none D d E A) : ∀ (fu : Nat) (x1 : Int32) (x2 : Int32) (st : CS) (H : Heap) (locs : List Loc) (ls : Array Slot), wX0_layEstate_19  post  fu x1 x2 st → Cx D (wX o ad d) A s st H locs → lv_has ls 4 [(0, .ref o), (1, .int x1), (2, .int x2)] → W p l e (headSpec (ws_ yX0_layEstate cX0_layEstate 4 none) rmX0_layEstate).room s m args below meth c H locs 0 0 (QV below D d E (wX o ad d) A args s 0 0 post) (F0 m 19 ls []) := by
  obtain ⟨hx, hb, hr, hml, hown, hts, hlk, hA, hK, hE⟩ := id F
  intro fu
  induction fu with
  | zero =>
    intro x1 x2 st H locs ls hw
    exact hw.elim
  | succ n ih =>
    have hk19 := ih
    intro x1 x2 st H locs ls hw C hl
    unfold wX0_layEstate_19 at hw
    refine lv_iload_n hx hb dX0_layEstate_19 rfl (lv_at hl 2 rfl) ?_
    refine lv_aload_n hx hb dX0_layEstate_20 rfl (lv_at hl 0 rfl) ?_
    refine x0_g6 F C dX0_layEstate_21 ?_
    refine lv_icmp_ge (tgt := 97) hx hb dX0_layEstate_24 (by decide) (fun c_5 => ?_) (fun c_5 => ?_)
    · have hw := hw.1 c_5
      refine lv_iconst (v := 0) hx hb dX0_layEstate_97 (by decide) ?_
      refine lv_istore_n (lv' := [(2, .int 0), (0, .ref o), (1, .int x1)]) hx hb dX0_layEstate_98 rfl hl (by decide) rfl (fun ls hl => ?_)
      obtain ⟨fu, hw⟩ := hw
      exact kX0_layEstate_99 hX F  fu x1 0 st _ _ _ hw C (lv_sub hl [1, 2, 0] rfl)
    · have hw := hw.2 c_5
      refine lv_aload_n hx hb dX0_layEstate_27 rfl (lv_at hl 0 rfl) ?_
      refine x0_g19 F C dX0_layEstate_28 ?_
      refine lv_iload_n hx hb dX0_layEstate_31 rfl (lv_at hl 2 rfl) ?_
      refine lv_iload_n hx hb dX0_layEstate_32 rfl (lv_at hl 2 rfl) ?_
      refine lv_iload_n hx hb dX0_layEstate_33 rfl (lv_at hl 1 rfl) ?_
      refine lv_icmp_eq (tgt := 82) hx hb dX0_layEstate_34 (by decide) (fun c_33 => ?_) (fun c_33 => ?_)
      · have hw := hw.1 c_33
        exact kX0_layEstate_82 hX F hk19 x1 x2 x2 st _ _ _ hw C hl
      · have hw := hw.2 c_33
        refine lv_aload_n hx hb dX0_layEstate_37 rfl (lv_at hl 0 rfl) ?_
        refine x0_g8 F C dX0_layEstate_38 ?_
        refine lv_iload_n hx hb dX0_layEstate_41 rfl (lv_at hl 2 rfl) ?_
        obtain ⟨h_39, hw⟩ := hw
        refine x0_ld8 F C h_39 dX0_layEstate_42 ?_
        refine lv_aload_n hx hb dX0_layEstate_43 rfl (lv_at hl 0 rfl) ?_
        refine x0_g9 F C dX0_layEstate_44 ?_
        refine lv_iload_n hx hb dX0_layEstate_47 rfl (lv_at hl 1 rfl) ?_
        obtain ⟨h_40, hw⟩ := hw
        refine x0_ld9 F C h_40 dX0_layEstate_48 ?_
        refine lv_icmp_gt (tgt := 82) hx hb dX0_layEstate_49 (by decide) (fun c_41 => ?_) (fun c_41 => ?_)
        · have hw := hw.1 c_41
          exact kX0_layEstate_82 hX F hk19 x1 x2 x2 st _ _ _ hw C hl
        · have hw := hw.2 c_41
          refine lv_aload_n hx hb dX0_layEstate_52 rfl (lv_at hl 0 rfl) ?_
          refine x0_g9 F C dX0_layEstate_53 ?_
          refine lv_iload_n hx hb dX0_layEstate_56 rfl (lv_at hl 2 rfl) ?_
          obtain ⟨h_42, hw⟩ := hw
          refine x0_ld9 F C h_42 dX0_layEstate_57 ?_
          refine lv_bipush (v := (-9)) hx hb dX0_layEstate_58 (by decide) ?_
          refine lv_icmp_eq (tgt := 78) hx hb dX0_layEstate_60 (by decide) (fun c_43 => ?_) (fun c_43 => ?_)
          · have hw := hw.1 c_43
            exact kX0_layEstate_78 hX F hk19 x1 x2 x2 st _ _ _ hw C hl
          · have hw := hw.2 c_43
            refine lv_aload_n hx hb dX0_layEstate_63 rfl (lv_at hl 0 rfl) ?_
            refine x0_g9 F C dX0_layEstate_64 ?_
            refine lv_iload_n hx hb dX0_layEstate_67 rfl (lv_at hl 2 rfl) ?_
            obtain ⟨h_44, hw⟩ := hw
            refine x0_ld9 F C h_44 dX0_layEstate_68 ?_
            refine lv_aload_n hx hb dX0_layEstate_69 rfl (lv_at hl 0 rfl) ?_
            refine x0_g9 F C dX0_layEstate_70 ?_
            refine lv_iload_n hx hb dX0_layEstate_73 rfl (lv_at hl 1 rfl) ?_
            obtain ⟨h_45, hw⟩ := hw
            refine x0_ld9 F C h_45 dX0_layEstate_74 ?_
            refine lv_icmp_le (tgt := 82) hx hb dX0_layEstate_75 (by decide) (fun c_46 => ?_) (fun c_46 => ?_)
            · have hw := hw.1 c_46
              exact kX0_layEstate_82 hX F hk19 x1 x2 x2 st _ _ _ hw C hl
            · have hw := hw.2 c_46
              exact kX0_layEstate_78 hX F hk19 x1 x2 x2 st _ _ _ hw C hl
theorem ctX0_layEstate (hE : Em E) (hX : ∀ U, E U → EL U) {post : CS → Prop} {s0 : CS} {p0 : Int32} (hw : wpX0_layEstate  post s0 p0) : CtV l yX0_layEstate (ws_ yX0_layEstate cX0_layEstate 4 none) rmX0_layEstate D d E (wX o ad d) 0 0 [.ref o, .int p0] s0 post := by
  refine CtV.of hE (by decide) rfl (Nat.le_of_ble_eq_true rfl) ?_
  intro p e s m below meth c A ls F C hl
  have hl : lv_has ls 4 [(0, .ref o), (1, .int p0)] := hl
  unfold wpX0_layEstate at hw
  obtain ⟨hx, hb, hr, hml, hown, hts, hlk, hA, hK, -⟩ := id F
  refine lv_aload_n hx hb dX0_layEstate_0 rfl (lv_at hl 0 rfl) ?_
  refine lv_iload_n hx hb dX0_layEstate_1 rfl (lv_at hl 1 rfl) ?_
  refine x0_p16 F C dX0_layEstate_2 (fun H locs s_1 es_1 C => ?_)
  have hw := hw s_1 es_1
  refine lv_aload_n hx hb dX0_layEstate_5 rfl (lv_at hl 0 rfl) ?_
  refine lv_bipush (v := 6) hx hb dX0_layEstate_6 (by decide) ?_
  refine lv_aload_n hx hb dX0_layEstate_8 rfl (lv_at hl 0 rfl) ?_
  refine lv_iload_n hx hb dX0_layEstate_9 rfl (lv_at hl 1 rfl) ?_
  refine x_callI (rest := [.int 6, .ref o]) (ci := 0) (q := (RX0, TX0, 41)) F C (ctX0_lawFor hE hX hw) (cwV 1 hts (lw_V q516 q518 qs10 q70 q519) rfl rfl rfl (by decide +kernel) ⟨Nat.le_of_ble_eq_true rfl, Nat.le_of_ble_eq_true rfl⟩) rfl rfl rfl hl.1 rfl (Nat.le_of_ble_eq_true rfl) dX0_layEstate_10 ⟨Nat.zero_le _, Nat.zero_le _⟩ (fun r_3 s_2 H locs hw C => ?_)
  refine lv_imul hx hb dX0_layEstate_13 ?_
  refine x0_p17 F C dX0_layEstate_14 (fun H locs s_4 es_4 C => ?_)
  have hw := hw s_4 es_4
  refine lv_iconst (v := 0) hx hb dX0_layEstate_17 (by decide) ?_
  refine lv_istore_n (lv' := [(2, .int 0), (0, .ref o), (1, .int p0)]) hx hb dX0_layEstate_18 rfl hl (by decide) rfl (fun ls hl => ?_)
  obtain ⟨fu, hw⟩ := hw
  exact kX0_layEstate_19 hX F  fu p0 0 s_4 _ _ _ hw C (lv_sub hl [1, 2, 0] rfl)

abbrev rmX0_addParents : Room := { frames := 0, cells := 0, slots := 0, locals := 0 }
def wX0_addParents_60  (post : CS → Prop) (k2 : Int32 → Int32 → CS → Prop) (x1 : Int32) (x2 : Int32) (st : CS) : Prop := (∀ x2_4 : Int32, x2_4 = x2 + 1 → (k2 x1 x2_4 st))
def wX0_addParents_2  (post : CS → Prop)  : Nat → Int32 → Int32 → CS → Prop
  | 0 => fun _ _ _ => False
  | n + 1 => fun x1 x2 st => (((sI st 11) ≤ x2 → (post st)) ∧ (¬ (sI st 11) ≤ x2 → (vp_in x2 40 ∧ (((sA st 20 x2.toNatClampNeg) = 0 → (wX0_addParents_60  post (wX0_addParents_2  post  n) x1 x2 st)) ∧ (¬ (sA st 20 x2.toNatClampNeg) = 0 → (vp_in x2 40 ∧ ∃ a_6 : Nat, sR st 10 x2.toNatClampNeg = some a_6 ∧ (okE st a_6 ∧ ((((sE st a_6).2.2 1) = x1 → (vp_in x2 40 ∧ ∃ a_10 : Nat, sR st 10 x2.toNatClampNeg = some a_10 ∧ (okE st a_10 ∧ (vp_in (sI st 29) 8 ∧ ∀ s_13 : CS, s_13 = uA st 28 (sI st 29).toNatClampNeg ((sE st a_10).2.2 0) → (∀ s_14 : CS, s_14 = uI s_13 29 ((sI s_13 29) + 1) → (wX0_addParents_60  post (wX0_addParents_2  post  n) x1 x2 s_14)))))) ∧ (¬ ((sE st a_6).2.2 1) = x1 → (wX0_addParents_60  post (wX0_addParents_2  post  n) x1 x2 st))))))))))
def wpX0_addParents  (post : CS → Prop) (s0 : CS) (p0 : Int32) : Prop := (∃ fu : Nat, wX0_addParents_2  post  fu p0 0 s0)
set_option maxHeartbeats 4000000 in
theorem kX0_addParents_60 (hX : ∀ U, E U → EL U) {post : CS → Prop} {k2 : Int32 → Int32 → CS → Prop} (F : Fx p s m args meth c cX0_addParents 3 RX0 none D d E A) (hk2 : ∀ (x1 : Int32) (x2 : Int32) (st : CS) (H : Heap) (locs : List Loc) (ls : Array Slot), k2 x1 x2 st → Cx D (wX o ad d) A s st H locs → lv_has ls 3 [(0, .ref o), (1, .int x1), (2, .int x2)] → W p l e (headSpec (ws_ yX0_addParents cX0_addParents 3 none) rmX0_addParents).room s m args below meth c H locs 0 0 (QV below D d E (wX o ad d) A args s 0 0 post) (F0 m 2 ls [])) : ∀ (x1 : Int32) (x2 : Int32) (st : CS) (H : Heap) (locs : List Loc) (ls : Array Slot), wX0_addParents_60  post k2 x1 x2 st → Cx D (wX o ad d) A s st H locs → lv_has ls 3 [(0, .ref o), (1, .int x1), (2, .int x2)] → W p l e (headSpec (ws_ yX0_addParents cX0_addParents 3 none) rmX0_addParents).room s m args below meth c H locs 0 0 (QV below D d E (wX o ad d) A args s 0 0 post) (F0 m 60 ls []) := by
  obtain ⟨hx, hb, hr, hml, hown, hts, hlk, hA, hK, hE⟩ := id F
  intro x1 x2 st H locs ls hw C hl
  unfold wX0_addParents_60 at hw
  obtain ⟨x2_4, ex2_4⟩ : ∃ y : Int32, y = x2 + 1 := ⟨_, rfl⟩
  have hw := hw x2_4 ex2_4
  refine lv_iinc (v := x2_4) (lv' := [(2, .int x2_4), (0, .ref o), (1, .int x1)]) hx hb dX0_addParents_60 hl (k := 2) rfl (by rw [ex2_4]; rfl) (by decide) rfl (fun ls hl => ?_)
  refine lv_goto (tgt := 2) hx hb dX0_addParents_63 (by decide) ?_
  exact hk2 x1 x2_4 st _ _ _ hw C (lv_sub hl [1, 2, 0] rfl)
set_option maxHeartbeats 4000000 in
theorem kX0_addParents_2 (hX : ∀ U, E U → EL U) {post : CS → Prop}  (F : Fx p s m args meth c cX0_addParents 3 RX0 none D d E A) : ∀ (fu : Nat) (x1 : Int32) (x2 : Int32) (st : CS) (H : Heap) (locs : List Loc) (ls : Array Slot), wX0_addParents_2  post  fu x1 x2 st → Cx D (wX o ad d) A s st H locs → lv_has ls 3 [(0, .ref o), (1, .int x1), (2, .int x2)] → W p l e (headSpec (ws_ yX0_addParents cX0_addParents 3 none) rmX0_addParents).room s m args below meth c H locs 0 0 (QV below D d E (wX o ad d) A args s 0 0 post) (F0 m 2 ls []) := by
  obtain ⟨hx, hb, hr, hml, hown, hts, hlk, hA, hK, hE⟩ := id F
  intro fu
  induction fu with
  | zero =>
    intro x1 x2 st H locs ls hw
    exact hw.elim
  | succ n ih =>
    have hk2 := ih
    intro x1 x2 st H locs ls hw C hl
    unfold wX0_addParents_2 at hw
    refine lv_iload_n hx hb dX0_addParents_2 rfl (lv_at hl 2 rfl) ?_
    refine lv_aload_n hx hb dX0_addParents_3 rfl (lv_at hl 0 rfl) ?_
    refine x0_g11 F C dX0_addParents_4 ?_
    refine lv_icmp_ge (tgt := 66) hx hb dX0_addParents_7 (by decide) (fun c_1 => ?_) (fun c_1 => ?_)
    · have hw := hw.1 c_1
      exact x_vret F C hw dX0_addParents_66
    · have hw := hw.2 c_1
      refine lv_aload_n hx hb dX0_addParents_10 rfl (lv_at hl 0 rfl) ?_
      refine x0_g20 F C dX0_addParents_11 ?_
      refine lv_iload_n hx hb dX0_addParents_14 rfl (lv_at hl 2 rfl) ?_
      obtain ⟨h_2, hw⟩ := hw
      refine x0_ld20 F C h_2 dX0_addParents_15 ?_
      refine lv_if_eq (tgt := 60) hx hb dX0_addParents_16 (by decide) (fun c_3 => ?_) (fun c_3 => ?_)
      · have hw := hw.1 c_3
        exact kX0_addParents_60 hX F hk2 x1 x2 st _ _ _ hw C hl
      · have hw := hw.2 c_3
        refine lv_aload_n hx hb dX0_addParents_19 rfl (lv_at hl 0 rfl) ?_
        refine x0_g10 F C dX0_addParents_20 ?_
        refine lv_iload_n hx hb dX0_addParents_23 rfl (lv_at hl 2 rfl) ?_
        obtain ⟨h_5, a_6, ha_6, hw⟩ := hw
        refine x0_ldL F C h_5 ha_6 dX0_addParents_24 ?_
        obtain ⟨h_7, hw⟩ := hw
        refine x0_gL1 F C h_7 dX0_addParents_25 ?_
        refine lv_iload_n hx hb dX0_addParents_28 rfl (lv_at hl 1 rfl) ?_
        refine lv_icmp_ne (tgt := 60) hx hb dX0_addParents_29 (by decide) (fun c_8 => ?_) (fun c_8 => ?_)
        · have hw := hw.2 c_8
          exact kX0_addParents_60 hX F hk2 x1 x2 st _ _ _ hw C hl
        · have hw := hw.1 c_8
          refine lv_aload_n hx hb dX0_addParents_32 rfl (lv_at hl 0 rfl) ?_
          refine x0_g28 F C dX0_addParents_33 ?_
          refine lv_aload_n hx hb dX0_addParents_36 rfl (lv_at hl 0 rfl) ?_
          refine x0_g29 F C dX0_addParents_37 ?_
          refine lv_aload_n hx hb dX0_addParents_40 rfl (lv_at hl 0 rfl) ?_
          refine x0_g10 F C dX0_addParents_41 ?_
          refine lv_iload_n hx hb dX0_addParents_44 rfl (lv_at hl 2 rfl) ?_
          obtain ⟨h_9, a_10, ha_10, hw⟩ := hw
          refine x0_ldL F C h_9 ha_10 dX0_addParents_45 ?_
          obtain ⟨h_11, hw⟩ := hw
          refine x0_gL0 F C h_11 dX0_addParents_46 ?_
          obtain ⟨h_12, hw⟩ := hw
          refine x0_st28 F C h_12 dX0_addParents_49 (fun H locs s_13 es_13 C => ?_)
          have hw := hw s_13 es_13
          refine lv_aload_n hx hb dX0_addParents_50 rfl (lv_at hl 0 rfl) ?_
          refine lv_dup hx hb dX0_addParents_51 rfl ?_
          refine x0_g29 F C dX0_addParents_52 ?_
          refine lv_iconst (v := 1) hx hb dX0_addParents_55 (by decide) ?_
          refine lv_iadd hx hb dX0_addParents_56 ?_
          refine x0_p29 F C dX0_addParents_57 (fun H locs s_14 es_14 C => ?_)
          have hw := hw s_14 es_14
          exact kX0_addParents_60 hX F hk2 x1 x2 s_14 _ _ _ hw C hl
theorem ctX0_addParents (hE : Em E) (hX : ∀ U, E U → EL U) {post : CS → Prop} {s0 : CS} {p0 : Int32} (hw : wpX0_addParents  post s0 p0) : CtV l yX0_addParents (ws_ yX0_addParents cX0_addParents 3 none) rmX0_addParents D d E (wX o ad d) 0 0 [.ref o, .int p0] s0 post := by
  refine CtV.of hE (by decide) rfl (Nat.le_of_ble_eq_true rfl) ?_
  intro p e s m below meth c A ls F C hl
  have hl : lv_has ls 3 [(0, .ref o), (1, .int p0)] := hl
  unfold wpX0_addParents at hw
  obtain ⟨hx, hb, hr, hml, hown, hts, hlk, hA, hK, -⟩ := id F
  refine lv_iconst (v := 0) hx hb dX0_addParents_0 (by decide) ?_
  refine lv_istore_n (lv' := [(2, .int 0), (0, .ref o), (1, .int p0)]) hx hb dX0_addParents_1 rfl hl (by decide) rfl (fun ls hl => ?_)
  obtain ⟨fu, hw⟩ := hw
  exact kX0_addParents_2 hX F  fu p0 0 s0 _ _ _ hw C (lv_sub hl [1, 2, 0] rfl)

abbrev rmX0_layHeads : Room := { frames := 1, cells := 0, slots := 0, locals := 22 }
def wX0_layHeads_48  (post : CS → Prop)  : Nat → Int32 → Int32 → CS → Prop
  | 0 => fun _ _ _ => False
  | n + 1 => fun x2 x3 st => (((sI st 29) ≤ x3 → (∀ s_8 : CS, s_8 = uI st 29 ((sI st 29) - x2) → (post s_8))) ∧ (¬ (sI st 29) ≤ x3 → (vp_in x3 8 ∧ (vp_in (x3 - x2) 8 ∧ ∀ s_11 : CS, s_11 = uA st 28 (x3 - x2).toNatClampNeg (sA st 28 x3.toNatClampNeg) → (∀ x3_12 : Int32, x3_12 = x3 + 1 → (wX0_layHeads_48  post  n x2 x3_12 s_11))))))
def wX0_layHeads_25  (post : CS → Prop)  : Nat → Int32 → Int32 → CS → Prop
  | 0 => fun _ _ _ => False
  | n + 1 => fun x2 x3 st => ((x2 ≤ x3 → (∃ fu : Nat, wX0_layHeads_48  post  fu x2 x2 st)) ∧ (¬ x2 ≤ x3 → (vp_in x3 8 ∧ (wpX0_addParents (fun s_14 => (∀ x3_16 : Int32, x3_16 = x3 + 1 → (wX0_layHeads_25  post  n x2 x3_16 s_14))) st (sA st 28 x3.toNatClampNeg)))))
def wpX0_layHeads  (post : CS → Prop) (s0 : CS) (p0 : Int32) : Prop := (∀ s_1 : CS, s_1 = uI s0 29 0 → (wpX0_addParents (fun s_2 => ((p0 = 3 → (∀ x2_5 : Int32, x2_5 = (sI s_2 29) → (∃ fu : Nat, wX0_layHeads_25  post  fu x2_5 0 s_2))) ∧ (¬ p0 = 3 → (post s_2)))) s_1 (sI s_1 16)))
set_option maxHeartbeats 4000000 in
theorem kX0_layHeads_48 (hX : ∀ U, E U → EL U) {post : CS → Prop}  (F : Fx p s m args meth c cX0_layHeads 4 RX0 none D d E A) : ∀ (fu : Nat) (x2 : Int32) (x3 : Int32) (st : CS) (H : Heap) (locs : List Loc) (ls : Array Slot), wX0_layHeads_48  post  fu x2 x3 st → Cx D (wX o ad d) A s st H locs → lv_has ls 4 [(0, .ref o), (2, .int x2), (3, .int x3)] → W p l e (headSpec (ws_ yX0_layHeads cX0_layHeads 4 none) rmX0_layHeads).room s m args below meth c H locs 0 0 (QV below D d E (wX o ad d) A args s 0 0 post) (F0 m 48 ls []) := by
  obtain ⟨hx, hb, hr, hml, hown, hts, hlk, hA, hK, hE⟩ := id F
  intro fu
  induction fu with
  | zero =>
    intro x2 x3 st H locs ls hw
    exact hw.elim
  | succ n ih =>
    have hk48 := ih
    intro x2 x3 st H locs ls hw C hl
    unfold wX0_layHeads_48 at hw
    refine lv_iload_n hx hb dX0_layHeads_48 rfl (lv_at hl 2 rfl) ?_
    refine lv_aload_n hx hb dX0_layHeads_49 rfl (lv_at hl 0 rfl) ?_
    refine x0_g29 F C dX0_layHeads_50 ?_
    refine lv_icmp_ge (tgt := 76) hx hb dX0_layHeads_53 (by decide) (fun c_7 => ?_) (fun c_7 => ?_)
    · have hw := hw.1 c_7
      refine lv_aload_n hx hb dX0_layHeads_76 rfl (lv_at hl 0 rfl) ?_
      refine lv_dup hx hb dX0_layHeads_77 rfl ?_
      refine x0_g29 F C dX0_layHeads_78 ?_
      refine lv_iload_n hx hb dX0_layHeads_81 rfl (lv_at hl 1 rfl) ?_
      refine lv_isub hx hb dX0_layHeads_82 ?_
      refine x0_p29 F C dX0_layHeads_83 (fun H locs s_8 es_8 C => ?_)
      have hw := hw s_8 es_8
      exact x_vret F C hw dX0_layHeads_86
    · have hw := hw.2 c_7
      refine lv_aload_n hx hb dX0_layHeads_56 rfl (lv_at hl 0 rfl) ?_
      refine x0_g28 F C dX0_layHeads_57 ?_
      refine lv_iload_n hx hb dX0_layHeads_60 rfl (lv_at hl 2 rfl) ?_
      refine lv_iload_n hx hb dX0_layHeads_61 rfl (lv_at hl 1 rfl) ?_
      refine lv_isub hx hb dX0_layHeads_62 ?_
      refine lv_aload_n hx hb dX0_layHeads_63 rfl (lv_at hl 0 rfl) ?_
      refine x0_g28 F C dX0_layHeads_64 ?_
      refine lv_iload_n hx hb dX0_layHeads_67 rfl (lv_at hl 2 rfl) ?_
      obtain ⟨h_9, hw⟩ := hw
      refine x0_ld28 F C h_9 dX0_layHeads_68 ?_
      obtain ⟨h_10, hw⟩ := hw
      refine x0_st28 F C h_10 dX0_layHeads_69 (fun H locs s_11 es_11 C => ?_)
      have hw := hw s_11 es_11
      obtain ⟨x3_12, ex3_12⟩ : ∃ y : Int32, y = x3 + 1 := ⟨_, rfl⟩
      have hw := hw x3_12 ex3_12
      refine lv_iinc (v := x3_12) (lv' := [(3, .int x3_12), (0, .ref o), (2, .int x2)]) hx hb dX0_layHeads_70 hl (k := 2) rfl (by rw [ex3_12]; rfl) (by decide) rfl (fun ls hl => ?_)
      refine lv_goto (tgt := 48) hx hb dX0_layHeads_73 (by decide) ?_
      exact hk48 x2 x3_12 s_11 _ _ _ hw C (lv_sub hl [1, 2, 0] rfl)
set_option maxHeartbeats 4000000 in
theorem kX0_layHeads_25 (hX : ∀ U, E U → EL U) {post : CS → Prop}  (F : Fx p s m args meth c cX0_layHeads 4 RX0 none D d E A) : ∀ (fu : Nat) (x2 : Int32) (x3 : Int32) (st : CS) (H : Heap) (locs : List Loc) (ls : Array Slot), wX0_layHeads_25  post  fu x2 x3 st → Cx D (wX o ad d) A s st H locs → lv_has ls 4 [(0, .ref o), (2, .int x2), (3, .int x3)] → W p l e (headSpec (ws_ yX0_layHeads cX0_layHeads 4 none) rmX0_layHeads).room s m args below meth c H locs 0 0 (QV below D d E (wX o ad d) A args s 0 0 post) (F0 m 25 ls []) := by
  obtain ⟨hx, hb, hr, hml, hown, hts, hlk, hA, hK, hE⟩ := id F
  intro fu
  induction fu with
  | zero =>
    intro x2 x3 st H locs ls hw
    exact hw.elim
  | succ n ih =>
    have hk25 := ih
    intro x2 x3 st H locs ls hw C hl
    unfold wX0_layHeads_25 at hw
    refine lv_iload_n hx hb dX0_layHeads_25 rfl (lv_at hl 2 rfl) ?_
    refine lv_iload_n hx hb dX0_layHeads_26 rfl (lv_at hl 1 rfl) ?_
    refine lv_icmp_ge (tgt := 46) hx hb dX0_layHeads_27 (by decide) (fun c_6 => ?_) (fun c_6 => ?_)
    · have hw := hw.1 c_6
      refine lv_iload_n hx hb dX0_layHeads_46 rfl (lv_at hl 1 rfl) ?_
      refine lv_istore_n (lv' := [(3, .int x2), (0, .ref o), (2, .int x2)]) hx hb dX0_layHeads_47 rfl hl (by decide) rfl (fun ls hl => ?_)
      obtain ⟨fu, hw⟩ := hw
      exact kX0_layHeads_48 hX F  fu x2 x2 st _ _ _ hw C (lv_sub hl [1, 2, 0] rfl)
    · have hw := hw.2 c_6
      refine lv_aload_n hx hb dX0_layHeads_30 rfl (lv_at hl 0 rfl) ?_
      refine lv_aload_n hx hb dX0_layHeads_31 rfl (lv_at hl 0 rfl) ?_
      refine x0_g28 F C dX0_layHeads_32 ?_
      refine lv_iload_n hx hb dX0_layHeads_35 rfl (lv_at hl 2 rfl) ?_
      obtain ⟨h_13, hw⟩ := hw
      refine x0_ld28 F C h_13 dX0_layHeads_36 ?_
      refine x_callV (rest := []) (ci := 0) (q := (RX0, TX0, 41)) F C (ctX0_addParents hE hX hw) (cwV 1 hts (lw_V q575 q577 qs19 q70 q578) rfl rfl rfl (by decide +kernel) ⟨Nat.le_of_ble_eq_true rfl, Nat.le_of_ble_eq_true rfl⟩) rfl rfl rfl hl.1 rfl (Nat.le_of_ble_eq_true rfl) dX0_layHeads_37 ⟨Nat.zero_le _, Nat.zero_le _⟩ (fun s_14 H locs hw C => ?_)
      obtain ⟨x3_16, ex3_16⟩ : ∃ y : Int32, y = x3 + 1 := ⟨_, rfl⟩
      have hw := hw x3_16 ex3_16
      refine lv_iinc (v := x3_16) (lv' := [(3, .int x3_16), (0, .ref o), (2, .int x2)]) hx hb dX0_layHeads_40 hl (k := 2) rfl (by rw [ex3_16]; rfl) (by decide) rfl (fun ls hl => ?_)
      refine lv_goto (tgt := 25) hx hb dX0_layHeads_43 (by decide) ?_
      exact hk25 x2 x3_16 s_14 _ _ _ hw C (lv_sub hl [1, 2, 0] rfl)
theorem ctX0_layHeads (hE : Em E) (hX : ∀ U, E U → EL U) {post : CS → Prop} {s0 : CS} {p0 : Int32} (hw : wpX0_layHeads  post s0 p0) : CtV l yX0_layHeads (ws_ yX0_layHeads cX0_layHeads 4 none) rmX0_layHeads D d E (wX o ad d) 0 0 [.ref o, .int p0] s0 post := by
  refine CtV.of hE (by decide) rfl (Nat.le_of_ble_eq_true rfl) ?_
  intro p e s m below meth c A ls F C hl
  have hl : lv_has ls 4 [(0, .ref o), (1, .int p0)] := hl
  unfold wpX0_layHeads at hw
  obtain ⟨hx, hb, hr, hml, hown, hts, hlk, hA, hK, -⟩ := id F
  refine lv_aload_n hx hb dX0_layHeads_0 rfl (lv_at hl 0 rfl) ?_
  refine lv_iconst (v := 0) hx hb dX0_layHeads_1 (by decide) ?_
  refine x0_p29 F C dX0_layHeads_2 (fun H locs s_1 es_1 C => ?_)
  have hw := hw s_1 es_1
  refine lv_aload_n hx hb dX0_layHeads_5 rfl (lv_at hl 0 rfl) ?_
  refine lv_aload_n hx hb dX0_layHeads_6 rfl (lv_at hl 0 rfl) ?_
  refine x0_g16 F C dX0_layHeads_7 ?_
  refine x_callV (rest := []) (ci := 0) (q := (RX0, TX0, 41)) F C (ctX0_addParents hE hX hw) (cwV 1 hts (lw_V q575 q577 qs19 q70 q578) rfl rfl rfl (by decide +kernel) ⟨Nat.le_of_ble_eq_true rfl, Nat.le_of_ble_eq_true rfl⟩) rfl rfl rfl hl.1 rfl (Nat.le_of_ble_eq_true rfl) dX0_layHeads_10 ⟨Nat.zero_le _, Nat.zero_le _⟩ (fun s_2 H locs hw C => ?_)
  refine lv_iload_n hx hb dX0_layHeads_13 rfl (lv_at hl 1 rfl) ?_
  refine lv_iconst (v := 3) hx hb dX0_layHeads_14 (by decide) ?_
  refine lv_icmp_ne (tgt := 86) hx hb dX0_layHeads_15 (by decide) (fun c_4 => ?_) (fun c_4 => ?_)
  · have hw := hw.2 c_4
    exact x_vret F C hw dX0_layHeads_86
  · have hw := hw.1 c_4
    refine lv_aload_n hx hb dX0_layHeads_18 rfl (lv_at hl 0 rfl) ?_
    refine x0_g29 F C dX0_layHeads_19 ?_
    refine lv_topi (fun x2_5 ex2_5 => ?_)
    have hw := hw x2_5 ex2_5
    refine lv_istore_n (lv' := [(2, .int x2_5), (0, .ref o), (1, .int p0)]) hx hb dX0_layHeads_22 rfl hl (by decide) rfl (fun ls hl => ?_)
    refine lv_iconst (v := 0) hx hb dX0_layHeads_23 (by decide) ?_
    refine lv_istore_n (lv' := [(3, .int 0), (2, .int x2_5), (0, .ref o), (1, .int p0)]) hx hb dX0_layHeads_24 rfl hl (by decide) rfl (fun ls hl => ?_)
    obtain ⟨fu, hw⟩ := hw
    exact kX0_layHeads_25 hX F  fu x2_5 0 s_2 _ _ _ hw C (lv_sub hl [2, 1, 0] rfl)

abbrev rmX0_headsIn : Room := { frames := 51, cells := 0, slots := 0, locals := 1121 }
def wX0_headsIn_31  (post : Int32 → CS → Prop) (k4 : Int32 → Int32 → CS → Prop) (x2 : Int32) (y0 : Int32) (y1 : Int32) (st : CS) : Prop := (∀ x1_6 : Int32, x1_6 = (y1 + y0) → (∀ x2_7 : Int32, x2_7 = x2 + 1 → (k4 x1_6 x2_7 st)))
def wX0_headsIn_4  (post : Int32 → CS → Prop)  : Nat → Int32 → Int32 → CS → Prop
  | 0 => fun _ _ _ => False
  | n + 1 => fun x1 x2 st => (((sI st 29) ≤ x2 → (post x1 st)) ∧ (¬ (sI st 29) ≤ x2 → (vp_in x2 8 ∧ (wpX0_isIn 25 (fun r_4 s_3 => ((r_4 = 0 → (wX0_headsIn_31  post (wX0_headsIn_4  post  n) x2 0 x1 s_3)) ∧ (¬ r_4 = 0 → (wX0_headsIn_31  post (wX0_headsIn_4  post  n) x2 1 x1 s_3)))) st (sA st 28 x2.toNatClampNeg)))))
def wpX0_headsIn  (post : Int32 → CS → Prop) (s0 : CS)  : Prop := (∃ fu : Nat, wX0_headsIn_4  post  fu 0 0 s0)
set_option maxHeartbeats 4000000 in
theorem kX0_headsIn_31 (hX : ∀ U, E U → EL U) {post : Int32 → CS → Prop} {k4 : Int32 → Int32 → CS → Prop} (F : Fx p s m args meth c cX0_headsIn 3 RX0 (some .int) D d E A) (hk4 : ∀ (x1 : Int32) (x2 : Int32) (st : CS) (H : Heap) (locs : List Loc) (ls : Array Slot), k4 x1 x2 st → Cx D (wX o ad d) A s st H locs → lv_has ls 3 [(0, .ref o), (1, .int x1), (2, .int x2)] → W p l e (headSpec (ws_ yX0_headsIn cX0_headsIn 3 (some .int)) rmX0_headsIn).room s m args below meth c H locs 0 0 (QI below D d E (wX o ad d) A args s 0 0 post) (F0 m 4 ls [])) : ∀ (x2 : Int32) (y0 : Int32) (y1 : Int32) (st : CS) (H : Heap) (locs : List Loc) (ls : Array Slot), wX0_headsIn_31  post k4 x2 y0 y1 st → Cx D (wX o ad d) A s st H locs → lv_has ls 3 [(0, .ref o), (2, .int x2)] → W p l e (headSpec (ws_ yX0_headsIn cX0_headsIn 3 (some .int)) rmX0_headsIn).room s m args below meth c H locs 0 0 (QI below D d E (wX o ad d) A args s 0 0 post) (F0 m 31 ls [.int y0, .int y1]) := by
  obtain ⟨hx, hb, hr, hml, hown, hts, hlk, hA, hK, hE⟩ := id F
  intro x2 y0 y1 st H locs ls hw C hl
  unfold wX0_headsIn_31 at hw
  refine lv_iadd hx hb dX0_headsIn_31 ?_
  refine lv_topi (fun x1_6 ex1_6 => ?_)
  have hw := hw x1_6 ex1_6
  refine lv_istore_n (lv' := [(1, .int x1_6), (0, .ref o), (2, .int x2)]) hx hb dX0_headsIn_32 rfl hl (by decide) rfl (fun ls hl => ?_)
  obtain ⟨x2_7, ex2_7⟩ : ∃ y : Int32, y = x2 + 1 := ⟨_, rfl⟩
  have hw := hw x2_7 ex2_7
  refine lv_iinc (v := x2_7) (lv' := [(2, .int x2_7), (1, .int x1_6), (0, .ref o)]) hx hb dX0_headsIn_33 hl (k := 2) rfl (by rw [ex2_7]; rfl) (by decide) rfl (fun ls hl => ?_)
  refine lv_goto (tgt := 4) hx hb dX0_headsIn_36 (by decide) ?_
  exact hk4 x1_6 x2_7 st _ _ _ hw C (lv_sub hl [2, 1, 0] rfl)
set_option maxHeartbeats 4000000 in
theorem kX0_headsIn_4 (hX : ∀ U, E U → EL U) {post : Int32 → CS → Prop}  (F : Fx p s m args meth c cX0_headsIn 3 RX0 (some .int) D d E A) : ∀ (fu : Nat) (x1 : Int32) (x2 : Int32) (st : CS) (H : Heap) (locs : List Loc) (ls : Array Slot), wX0_headsIn_4  post  fu x1 x2 st → Cx D (wX o ad d) A s st H locs → lv_has ls 3 [(0, .ref o), (1, .int x1), (2, .int x2)] → W p l e (headSpec (ws_ yX0_headsIn cX0_headsIn 3 (some .int)) rmX0_headsIn).room s m args below meth c H locs 0 0 (QI below D d E (wX o ad d) A args s 0 0 post) (F0 m 4 ls []) := by
  obtain ⟨hx, hb, hr, hml, hown, hts, hlk, hA, hK, hE⟩ := id F
  intro fu
  induction fu with
  | zero =>
    intro x1 x2 st H locs ls hw
    exact hw.elim
  | succ n ih =>
    have hk4 := ih
    intro x1 x2 st H locs ls hw C hl
    unfold wX0_headsIn_4 at hw
    refine lv_iload_n hx hb dX0_headsIn_4 rfl (lv_at hl 2 rfl) ?_
    refine lv_aload_n hx hb dX0_headsIn_5 rfl (lv_at hl 0 rfl) ?_
    refine x0_g29 F C dX0_headsIn_6 ?_
    refine lv_icmp_ge (tgt := 39) hx hb dX0_headsIn_9 (by decide) (fun c_1 => ?_) (fun c_1 => ?_)
    · have hw := hw.1 c_1
      refine lv_iload_n hx hb dX0_headsIn_39 rfl (lv_at hl 1 rfl) ?_
      exact x_iret F C hw dX0_headsIn_40
    · have hw := hw.2 c_1
      refine lv_iload_n hx hb dX0_headsIn_12 rfl (lv_at hl 1 rfl) ?_
      refine lv_aload_n hx hb dX0_headsIn_13 rfl (lv_at hl 0 rfl) ?_
      refine lv_aload_n hx hb dX0_headsIn_14 rfl (lv_at hl 0 rfl) ?_
      refine x0_g28 F C dX0_headsIn_15 ?_
      refine lv_iload_n hx hb dX0_headsIn_18 rfl (lv_at hl 2 rfl) ?_
      obtain ⟨h_2, hw⟩ := hw
      refine x0_ld28 F C h_2 dX0_headsIn_19 ?_
      refine x_callI (rest := [.int x1]) (ci := 0) (q := (RX0, TX0, 41)) F C (ctX0_isIn 25 hE hX hw) (cwV 1 hts (lw_V q567 q569 qs17 q70 q570) rfl rfl rfl (by decide +kernel) ⟨Nat.le_of_ble_eq_true rfl, Nat.le_of_ble_eq_true rfl⟩) rfl rfl rfl hl.1 rfl (Nat.le_of_ble_eq_true rfl) dX0_headsIn_20 ⟨Nat.zero_le _, Nat.zero_le _⟩ (fun r_4 s_3 H locs hw C => ?_)
      refine lv_if_eq (tgt := 30) hx hb dX0_headsIn_23 (by decide) (fun c_5 => ?_) (fun c_5 => ?_)
      · have hw := hw.1 c_5
        refine lv_iconst (v := 0) hx hb dX0_headsIn_30 (by decide) ?_
        exact kX0_headsIn_31 hX F hk4 x2 0 x1 s_3 _ _ _ hw C (lv_sub hl [0, 2] rfl)
      · have hw := hw.2 c_5
        refine lv_iconst (v := 1) hx hb dX0_headsIn_26 (by decide) ?_
        refine lv_goto (tgt := 31) hx hb dX0_headsIn_27 (by decide) ?_
        exact kX0_headsIn_31 hX F hk4 x2 1 x1 s_3 _ _ _ hw C (lv_sub hl [0, 2] rfl)
theorem ctX0_headsIn (hE : Em E) (hX : ∀ U, E U → EL U) {post : Int32 → CS → Prop} {s0 : CS}  (hw : wpX0_headsIn  post s0 ) : CtI l yX0_headsIn (ws_ yX0_headsIn cX0_headsIn 3 (some .int)) rmX0_headsIn D d E (wX o ad d) 0 0 [.ref o] s0 post := by
  refine CtI.of hE (by decide) rfl (Nat.le_of_ble_eq_true rfl) ?_
  intro p e s m below meth c A ls F C hl
  have hl : lv_has ls 3 [(0, .ref o)] := hl
  unfold wpX0_headsIn at hw
  obtain ⟨hx, hb, hr, hml, hown, hts, hlk, hA, hK, -⟩ := id F
  refine lv_iconst (v := 0) hx hb dX0_headsIn_0 (by decide) ?_
  refine lv_istore_n (lv' := [(1, .int 0), (0, .ref o)]) hx hb dX0_headsIn_1 rfl hl (by decide) rfl (fun ls hl => ?_)
  refine lv_iconst (v := 0) hx hb dX0_headsIn_2 (by decide) ?_
  refine lv_istore_n (lv' := [(2, .int 0), (1, .int 0), (0, .ref o)]) hx hb dX0_headsIn_3 rfl hl (by decide) rfl (fun ls hl => ?_)
  obtain ⟨fu, hw⟩ := hw
  exact kX0_headsIn_4 hX F  fu 0 0 s0 _ _ _ hw C (lv_sub hl [2, 1, 0] rfl)

abbrev rmX0_findCircle : Room := { frames := 52, cells := 0, slots := 0, locals := 1144 }
def wX0_findCircle_15  (post : Int32 → CS → Prop)  : Nat → Int32 → CS → Prop
  | 0 => fun _ _ => False
  | n + 1 => fun x1 st => (vp_in ((sI st 17) + 5) 96 ∧ (((sA st 15 ((sI st 17) + 5).toNatClampNeg) < x1 → (post 0 st)) ∧ (¬ (sA st 15 ((sI st 17) + 5).toNatClampNeg) < x1 → (wpX0_layHeads (fun s_6 => (wpX0_headsIn (fun r_9 s_8 => ((r_9 ≤ 0 → (∀ x1_11 : Int32, x1_11 = x1 + 1 → (wX0_findCircle_15  post  n x1_11 s_8))) ∧ (¬ r_9 ≤ 0 → (post x1 s_8)))) s_6 )) st x1))))
def wpX0_findCircle  (post : Int32 → CS → Prop) (s0 : CS)  : Prop := (wpX0_issueTakes 25 (fun r_2 s_1 => ((r_2 = 0 → (∃ fu : Nat, wX0_findCircle_15  post  fu 2 s_1)) ∧ (¬ r_2 = 0 → (post 1 s_1)))) s0 (sI s0 16))
set_option maxHeartbeats 4000000 in
theorem kX0_findCircle_15 (hX : ∀ U, E U → EL U) {post : Int32 → CS → Prop}  (F : Fx p s m args meth c cX0_findCircle 2 RX0 (some .int) D d E A) : ∀ (fu : Nat) (x1 : Int32) (st : CS) (H : Heap) (locs : List Loc) (ls : Array Slot), wX0_findCircle_15  post  fu x1 st → Cx D (wX o ad d) A s st H locs → lv_has ls 2 [(0, .ref o), (1, .int x1)] → W p l e (headSpec (ws_ yX0_findCircle cX0_findCircle 2 (some .int)) rmX0_findCircle).room s m args below meth c H locs 0 0 (QI below D d E (wX o ad d) A args s 0 0 post) (F0 m 15 ls []) := by
  obtain ⟨hx, hb, hr, hml, hown, hts, hlk, hA, hK, hE⟩ := id F
  intro fu
  induction fu with
  | zero =>
    intro x1 st H locs ls hw
    exact hw.elim
  | succ n ih =>
    have hk15 := ih
    intro x1 st H locs ls hw C hl
    unfold wX0_findCircle_15 at hw
    refine lv_iload_n hx hb dX0_findCircle_15 rfl (lv_at hl 1 rfl) ?_
    refine lv_aload_n hx hb dX0_findCircle_16 rfl (lv_at hl 0 rfl) ?_
    refine x0_g15 F C dX0_findCircle_17 ?_
    refine lv_aload_n hx hb dX0_findCircle_20 rfl (lv_at hl 0 rfl) ?_
    refine x0_g17 F C dX0_findCircle_21 ?_
    refine lv_iconst (v := 5) hx hb dX0_findCircle_24 (by decide) ?_
    refine lv_iadd hx hb dX0_findCircle_25 ?_
    obtain ⟨h_4, hw⟩ := hw
    refine x0_ld15 F C h_4 dX0_findCircle_26 ?_
    refine lv_icmp_gt (tgt := 50) hx hb dX0_findCircle_27 (by decide) (fun c_5 => ?_) (fun c_5 => ?_)
    · have hw := hw.1 c_5
      refine lv_iconst (v := 0) hx hb dX0_findCircle_50 (by decide) ?_
      exact x_iret F C hw dX0_findCircle_51
    · have hw := hw.2 c_5
      refine lv_aload_n hx hb dX0_findCircle_30 rfl (lv_at hl 0 rfl) ?_
      refine lv_iload_n hx hb dX0_findCircle_31 rfl (lv_at hl 1 rfl) ?_
      refine x_callV (rest := []) (ci := 0) (q := (RX0, TX0, 41)) F C (ctX0_layHeads hE hX hw) (cwV 1 hts (lw_V q571 q573 qs18 q70 q574) rfl rfl rfl (by decide +kernel) ⟨Nat.le_of_ble_eq_true rfl, Nat.le_of_ble_eq_true rfl⟩) rfl rfl rfl hl.1 rfl (Nat.le_of_ble_eq_true rfl) dX0_findCircle_32 ⟨Nat.zero_le _, Nat.zero_le _⟩ (fun s_6 H locs hw C => ?_)
      refine lv_aload_n hx hb dX0_findCircle_35 rfl (lv_at hl 0 rfl) ?_
      refine x_callI (rest := []) (ci := 0) (q := (RX0, TX0, 41)) F C (ctX0_headsIn hE hX hw) (cwV 0 hts (lw_V q579 q581 qs20 q70 q582) rfl rfl rfl (by decide +kernel) ⟨Nat.le_of_ble_eq_true rfl, Nat.le_of_ble_eq_true rfl⟩) rfl rfl rfl hl.1 rfl (Nat.le_of_ble_eq_true rfl) dX0_findCircle_36 ⟨Nat.zero_le _, Nat.zero_le _⟩ (fun r_9 s_8 H locs hw C => ?_)
      refine lv_if_le (tgt := 44) hx hb dX0_findCircle_39 (by decide) (fun c_10 => ?_) (fun c_10 => ?_)
      · have hw := hw.1 c_10
        obtain ⟨x1_11, ex1_11⟩ : ∃ y : Int32, y = x1 + 1 := ⟨_, rfl⟩
        have hw := hw x1_11 ex1_11
        refine lv_iinc (v := x1_11) (lv' := [(1, .int x1_11), (0, .ref o)]) hx hb dX0_findCircle_44 hl (k := 1) rfl (by rw [ex1_11]; rfl) (by decide) rfl (fun ls hl => ?_)
        refine lv_goto (tgt := 15) hx hb dX0_findCircle_47 (by decide) ?_
        exact hk15 x1_11 s_8 _ _ _ hw C (lv_sub hl [1, 0] rfl)
      · have hw := hw.2 c_10
        refine lv_iload_n hx hb dX0_findCircle_42 rfl (lv_at hl 1 rfl) ?_
        exact x_iret F C hw dX0_findCircle_43
theorem ctX0_findCircle (hE : Em E) (hX : ∀ U, E U → EL U) {post : Int32 → CS → Prop} {s0 : CS}  (hw : wpX0_findCircle  post s0 ) : CtI l yX0_findCircle (ws_ yX0_findCircle cX0_findCircle 2 (some .int)) rmX0_findCircle D d E (wX o ad d) 0 0 [.ref o] s0 post := by
  refine CtI.of hE (by decide) rfl (Nat.le_of_ble_eq_true rfl) ?_
  intro p e s m below meth c A ls F C hl
  have hl : lv_has ls 2 [(0, .ref o)] := hl
  unfold wpX0_findCircle at hw
  obtain ⟨hx, hb, hr, hml, hown, hts, hlk, hA, hK, -⟩ := id F
  refine lv_aload_n hx hb dX0_findCircle_0 rfl (lv_at hl 0 rfl) ?_
  refine lv_aload_n hx hb dX0_findCircle_1 rfl (lv_at hl 0 rfl) ?_
  refine x0_g16 F C dX0_findCircle_2 ?_
  refine x_callI (rest := []) (ci := 0) (q := (RX0, TX0, 41)) F C (ctX0_issueTakes 25 hE hX hw) (cwV 1 hts (lw_V q563 q565 qs16 q70 q566) rfl rfl rfl (by decide +kernel) ⟨Nat.le_of_ble_eq_true rfl, Nat.le_of_ble_eq_true rfl⟩) rfl rfl rfl hl.1 rfl (Nat.le_of_ble_eq_true rfl) dX0_findCircle_5 ⟨Nat.zero_le _, Nat.zero_le _⟩ (fun r_2 s_1 H locs hw C => ?_)
  refine lv_if_eq (tgt := 13) hx hb dX0_findCircle_8 (by decide) (fun c_3 => ?_) (fun c_3 => ?_)
  · have hw := hw.1 c_3
    refine lv_iconst (v := 2) hx hb dX0_findCircle_13 (by decide) ?_
    refine lv_istore_n (lv' := [(1, .int 2), (0, .ref o)]) hx hb dX0_findCircle_14 rfl hl (by decide) rfl (fun ls hl => ?_)
    obtain ⟨fu, hw⟩ := hw
    exact kX0_findCircle_15 hX F  fu 2 s_1 _ _ _ hw C (lv_sub hl [1, 0] rfl)
  · have hw := hw.2 c_3
    refine lv_iconst (v := 1) hx hb dX0_findCircle_11 (by decide) ?_
    exact x_iret F C hw dX0_findCircle_12

abbrev rmX0_coupled : Room := { frames := 0, cells := 0, slots := 0, locals := 0 }
def wX0_coupled_145  (post : Int32 → CS → Prop) (k2 : Int32 → CS → Prop) (x1 : Int32) (st : CS) : Prop := (∀ x1_14 : Int32, x1_14 = x1 + 1 → (k2 x1_14 st))
def wX0_coupled_118  (post : Int32 → CS → Prop) (k2 : Int32 → CS → Prop) (x1 : Int32) (x5 : Int32) (y0 : Int32) (st : CS) : Prop := ((x5 = 0 → (wX0_coupled_145  post k2 x1 st)) ∧ (¬ x5 = 0 → ((y0 = (-9) → (wX0_coupled_145  post k2 x1 st)) ∧ (¬ y0 = (-9) → (vp_in y0 24 ∧ (((sA st 19 y0.toNatClampNeg) = 0 → (wX0_coupled_145  post k2 x1 st)) ∧ (¬ (sA st 19 y0.toNatClampNeg) = 0 → (post y0 st))))))))
def wX0_coupled_90  (post : Int32 → CS → Prop) (k2 : Int32 → CS → Prop) (x1 : Int32) (x2 : Int32) (x3 : Int32) (y0 : Int32) (st : CS) : Prop := ((x2 = (sI st 16) → (wX0_coupled_118  post k2 x1 y0 x3 st)) ∧ (¬ x2 = (sI st 16) → ((x3 = (sI st 16) → (wX0_coupled_118  post k2 x1 y0 x2 st)) ∧ (¬ x3 = (sI st 16) → (wX0_coupled_118  post k2 x1 y0 (-9) st)))))
def wX0_coupled_89  (post : Int32 → CS → Prop) (k2 : Int32 → CS → Prop) (x1 : Int32) (x2 : Int32) (x3 : Int32) (st : CS) : Prop := (wX0_coupled_90  post k2 x1 x2 x3 0 st)
def wX0_coupled_85  (post : Int32 → CS → Prop) (k2 : Int32 → CS → Prop) (x1 : Int32) (x2 : Int32) (x3 : Int32) (st : CS) : Prop := (wX0_coupled_90  post k2 x1 x2 x3 1 st)
def wX0_coupled_2  (post : Int32 → CS → Prop)  : Nat → Int32 → CS → Prop
  | 0 => fun _ _ => False
  | n + 1 => fun x1 st => (((sI st 12) ≤ x1 → (post (-9) st)) ∧ (¬ (sI st 12) ≤ x1 → (vp_in (4 * x1) 80 ∧ (∀ x2_3 : Int32, x2_3 = (sA st 13 (4 * x1).toNatClampNeg) → (vp_in ((4 * x1) + 1) 80 ∧ (∀ x3_5 : Int32, x3_5 = (sA st 13 ((4 * x1) + 1).toNatClampNeg) → (vp_in ((4 * x1) + 3) 80 ∧ (∀ x4_7 : Int32, x4_7 = (sA st 13 ((4 * x1) + 3).toNatClampNeg) → (vp_in ((4 * x1) + 2) 80 ∧ (vp_in (sI st 16) 24 ∧ (((sA st 9 (sI st 16).toNatClampNeg) < (sA st 13 ((4 * x1) + 2).toNatClampNeg) → (wX0_coupled_89  post (wX0_coupled_2  post  n) x1 x2_3 x3_5 st)) ∧ (¬ (sA st 9 (sI st 16).toNatClampNeg) < (sA st 13 ((4 * x1) + 2).toNatClampNeg) → ((x4_7 = (-9) → (wX0_coupled_85  post (wX0_coupled_2  post  n) x1 x2_3 x3_5 st)) ∧ (¬ x4_7 = (-9) → (vp_in (sI st 16) 24 ∧ ((x4_7 < (sA st 9 (sI st 16).toNatClampNeg) → (wX0_coupled_89  post (wX0_coupled_2  post  n) x1 x2_3 x3_5 st)) ∧ (¬ x4_7 < (sA st 9 (sI st 16).toNatClampNeg) → (wX0_coupled_85  post (wX0_coupled_2  post  n) x1 x2_3 x3_5 st))))))))))))))))))
def wpX0_coupled  (post : Int32 → CS → Prop) (s0 : CS)  : Prop := (∃ fu : Nat, wX0_coupled_2  post  fu 0 s0)
set_option maxHeartbeats 4000000 in
theorem kX0_coupled_145 (hX : ∀ U, E U → EL U) {post : Int32 → CS → Prop} {k2 : Int32 → CS → Prop} (F : Fx p s m args meth c cX0_coupled 7 RX0 (some .int) D d E A) (hk2 : ∀ (x1 : Int32) (st : CS) (H : Heap) (locs : List Loc) (ls : Array Slot), k2 x1 st → Cx D (wX o ad d) A s st H locs → lv_has ls 7 [(0, .ref o), (1, .int x1)] → W p l e (headSpec (ws_ yX0_coupled cX0_coupled 7 (some .int)) rmX0_coupled).room s m args below meth c H locs 0 0 (QI below D d E (wX o ad d) A args s 0 0 post) (F0 m 2 ls [])) : ∀ (x1 : Int32) (st : CS) (H : Heap) (locs : List Loc) (ls : Array Slot), wX0_coupled_145  post k2 x1 st → Cx D (wX o ad d) A s st H locs → lv_has ls 7 [(0, .ref o), (1, .int x1)] → W p l e (headSpec (ws_ yX0_coupled cX0_coupled 7 (some .int)) rmX0_coupled).room s m args below meth c H locs 0 0 (QI below D d E (wX o ad d) A args s 0 0 post) (F0 m 145 ls []) := by
  obtain ⟨hx, hb, hr, hml, hown, hts, hlk, hA, hK, hE⟩ := id F
  intro x1 st H locs ls hw C hl
  unfold wX0_coupled_145 at hw
  obtain ⟨x1_14, ex1_14⟩ : ∃ y : Int32, y = x1 + 1 := ⟨_, rfl⟩
  have hw := hw x1_14 ex1_14
  refine lv_iinc (v := x1_14) (lv' := [(1, .int x1_14), (0, .ref o)]) hx hb dX0_coupled_145 hl (k := 1) rfl (by rw [ex1_14]; rfl) (by decide) rfl (fun ls hl => ?_)
  refine lv_goto (tgt := 2) hx hb dX0_coupled_148 (by decide) ?_
  exact hk2 x1_14 st _ _ _ hw C (lv_sub hl [1, 0] rfl)
set_option maxHeartbeats 4000000 in
theorem kX0_coupled_118 (hX : ∀ U, E U → EL U) {post : Int32 → CS → Prop} {k2 : Int32 → CS → Prop} (F : Fx p s m args meth c cX0_coupled 7 RX0 (some .int) D d E A) (hk2 : ∀ (x1 : Int32) (st : CS) (H : Heap) (locs : List Loc) (ls : Array Slot), k2 x1 st → Cx D (wX o ad d) A s st H locs → lv_has ls 7 [(0, .ref o), (1, .int x1)] → W p l e (headSpec (ws_ yX0_coupled cX0_coupled 7 (some .int)) rmX0_coupled).room s m args below meth c H locs 0 0 (QI below D d E (wX o ad d) A args s 0 0 post) (F0 m 2 ls [])) : ∀ (x1 : Int32) (x5 : Int32) (y0 : Int32) (st : CS) (H : Heap) (locs : List Loc) (ls : Array Slot), wX0_coupled_118  post k2 x1 x5 y0 st → Cx D (wX o ad d) A s st H locs → lv_has ls 7 [(0, .ref o), (1, .int x1), (5, .int x5)] → W p l e (headSpec (ws_ yX0_coupled cX0_coupled 7 (some .int)) rmX0_coupled).room s m args below meth c H locs 0 0 (QI below D d E (wX o ad d) A args s 0 0 post) (F0 m 118 ls [.int y0]) := by
  obtain ⟨hx, hb, hr, hml, hown, hts, hlk, hA, hK, hE⟩ := id F
  intro x1 x5 y0 st H locs ls hw C hl
  unfold wX0_coupled_118 at hw
  refine lv_istore (lv' := [(6, .int y0), (0, .ref o), (1, .int x1), (5, .int x5)]) hx hb dX0_coupled_118 hl (by decide) rfl (fun ls hl => ?_)
  refine lv_iload hx hb dX0_coupled_120 (lv_at hl 3 rfl) ?_
  refine lv_if_eq (tgt := 145) hx hb dX0_coupled_122 (by decide) (fun c_13 => ?_) (fun c_13 => ?_)
  · have hw := hw.1 c_13
    exact kX0_coupled_145 hX F hk2 x1 st _ _ _ hw C (lv_sub hl [1, 2] rfl)
  · have hw := hw.2 c_13
    refine lv_iload hx hb dX0_coupled_125 (lv_at hl 0 rfl) ?_
    refine lv_bipush (v := (-9)) hx hb dX0_coupled_127 (by decide) ?_
    refine lv_icmp_eq (tgt := 145) hx hb dX0_coupled_129 (by decide) (fun c_15 => ?_) (fun c_15 => ?_)
    · have hw := hw.1 c_15
      exact kX0_coupled_145 hX F hk2 x1 st _ _ _ hw C (lv_sub hl [1, 2] rfl)
    · have hw := hw.2 c_15
      refine lv_aload_n hx hb dX0_coupled_132 rfl (lv_at hl 1 rfl) ?_
      refine x0_g19 F C dX0_coupled_133 ?_
      refine lv_iload hx hb dX0_coupled_136 (lv_at hl 0 rfl) ?_
      obtain ⟨h_16, hw⟩ := hw
      refine x0_ld19 F C h_16 dX0_coupled_138 ?_
      refine lv_if_eq (tgt := 145) hx hb dX0_coupled_139 (by decide) (fun c_17 => ?_) (fun c_17 => ?_)
      · have hw := hw.1 c_17
        exact kX0_coupled_145 hX F hk2 x1 st _ _ _ hw C (lv_sub hl [1, 2] rfl)
      · have hw := hw.2 c_17
        refine lv_iload hx hb dX0_coupled_142 (lv_at hl 0 rfl) ?_
        exact x_iret F C hw dX0_coupled_144
set_option maxHeartbeats 4000000 in
theorem kX0_coupled_90 (hX : ∀ U, E U → EL U) {post : Int32 → CS → Prop} {k2 : Int32 → CS → Prop} (F : Fx p s m args meth c cX0_coupled 7 RX0 (some .int) D d E A) (hk2 : ∀ (x1 : Int32) (st : CS) (H : Heap) (locs : List Loc) (ls : Array Slot), k2 x1 st → Cx D (wX o ad d) A s st H locs → lv_has ls 7 [(0, .ref o), (1, .int x1)] → W p l e (headSpec (ws_ yX0_coupled cX0_coupled 7 (some .int)) rmX0_coupled).room s m args below meth c H locs 0 0 (QI below D d E (wX o ad d) A args s 0 0 post) (F0 m 2 ls [])) : ∀ (x1 : Int32) (x2 : Int32) (x3 : Int32) (y0 : Int32) (st : CS) (H : Heap) (locs : List Loc) (ls : Array Slot), wX0_coupled_90  post k2 x1 x2 x3 y0 st → Cx D (wX o ad d) A s st H locs → lv_has ls 7 [(0, .ref o), (1, .int x1), (2, .int x2), (3, .int x3)] → W p l e (headSpec (ws_ yX0_coupled cX0_coupled 7 (some .int)) rmX0_coupled).room s m args below meth c H locs 0 0 (QI below D d E (wX o ad d) A args s 0 0 post) (F0 m 90 ls [.int y0]) := by
  obtain ⟨hx, hb, hr, hml, hown, hts, hlk, hA, hK, hE⟩ := id F
  intro x1 x2 x3 y0 st H locs ls hw C hl
  unfold wX0_coupled_90 at hw
  refine lv_istore (lv' := [(5, .int y0), (0, .ref o), (1, .int x1), (2, .int x2), (3, .int x3)]) hx hb dX0_coupled_90 hl (by decide) rfl (fun ls hl => ?_)
  refine lv_iload_n hx hb dX0_coupled_92 rfl (lv_at hl 3 rfl) ?_
  refine lv_aload_n hx hb dX0_coupled_93 rfl (lv_at hl 1 rfl) ?_
  refine x0_g16 F C dX0_coupled_94 ?_
  refine lv_icmp_ne (tgt := 104) hx hb dX0_coupled_97 (by decide) (fun c_11 => ?_) (fun c_11 => ?_)
  · have hw := hw.2 c_11
    refine lv_iload_n hx hb dX0_coupled_104 rfl (lv_at hl 4 rfl) ?_
    refine lv_aload_n hx hb dX0_coupled_105 rfl (lv_at hl 1 rfl) ?_
    refine x0_g16 F C dX0_coupled_106 ?_
    refine lv_icmp_ne (tgt := 116) hx hb dX0_coupled_109 (by decide) (fun c_12 => ?_) (fun c_12 => ?_)
    · have hw := hw.2 c_12
      refine lv_bipush (v := (-9)) hx hb dX0_coupled_116 (by decide) ?_
      exact kX0_coupled_118 hX F hk2 x1 y0 (-9) st _ _ _ hw C (lv_sub hl [1, 2, 0] rfl)
    · have hw := hw.1 c_12
      refine lv_iload_n hx hb dX0_coupled_112 rfl (lv_at hl 3 rfl) ?_
      refine lv_goto (tgt := 118) hx hb dX0_coupled_113 (by decide) ?_
      exact kX0_coupled_118 hX F hk2 x1 y0 x2 st _ _ _ hw C (lv_sub hl [1, 2, 0] rfl)
  · have hw := hw.1 c_11
    refine lv_iload_n hx hb dX0_coupled_100 rfl (lv_at hl 4 rfl) ?_
    refine lv_goto (tgt := 118) hx hb dX0_coupled_101 (by decide) ?_
    exact kX0_coupled_118 hX F hk2 x1 y0 x3 st _ _ _ hw C (lv_sub hl [1, 2, 0] rfl)
set_option maxHeartbeats 4000000 in
theorem kX0_coupled_89 (hX : ∀ U, E U → EL U) {post : Int32 → CS → Prop} {k2 : Int32 → CS → Prop} (F : Fx p s m args meth c cX0_coupled 7 RX0 (some .int) D d E A) (hk2 : ∀ (x1 : Int32) (st : CS) (H : Heap) (locs : List Loc) (ls : Array Slot), k2 x1 st → Cx D (wX o ad d) A s st H locs → lv_has ls 7 [(0, .ref o), (1, .int x1)] → W p l e (headSpec (ws_ yX0_coupled cX0_coupled 7 (some .int)) rmX0_coupled).room s m args below meth c H locs 0 0 (QI below D d E (wX o ad d) A args s 0 0 post) (F0 m 2 ls [])) : ∀ (x1 : Int32) (x2 : Int32) (x3 : Int32) (st : CS) (H : Heap) (locs : List Loc) (ls : Array Slot), wX0_coupled_89  post k2 x1 x2 x3 st → Cx D (wX o ad d) A s st H locs → lv_has ls 7 [(0, .ref o), (1, .int x1), (2, .int x2), (3, .int x3)] → W p l e (headSpec (ws_ yX0_coupled cX0_coupled 7 (some .int)) rmX0_coupled).room s m args below meth c H locs 0 0 (QI below D d E (wX o ad d) A args s 0 0 post) (F0 m 89 ls []) := by
  obtain ⟨hx, hb, hr, hml, hown, hts, hlk, hA, hK, hE⟩ := id F
  intro x1 x2 x3 st H locs ls hw C hl
  unfold wX0_coupled_89 at hw
  refine lv_iconst (v := 0) hx hb dX0_coupled_89 (by decide) ?_
  exact kX0_coupled_90 hX F hk2 x1 x2 x3 0 st _ _ _ hw C hl
set_option maxHeartbeats 4000000 in
theorem kX0_coupled_85 (hX : ∀ U, E U → EL U) {post : Int32 → CS → Prop} {k2 : Int32 → CS → Prop} (F : Fx p s m args meth c cX0_coupled 7 RX0 (some .int) D d E A) (hk2 : ∀ (x1 : Int32) (st : CS) (H : Heap) (locs : List Loc) (ls : Array Slot), k2 x1 st → Cx D (wX o ad d) A s st H locs → lv_has ls 7 [(0, .ref o), (1, .int x1)] → W p l e (headSpec (ws_ yX0_coupled cX0_coupled 7 (some .int)) rmX0_coupled).room s m args below meth c H locs 0 0 (QI below D d E (wX o ad d) A args s 0 0 post) (F0 m 2 ls [])) : ∀ (x1 : Int32) (x2 : Int32) (x3 : Int32) (st : CS) (H : Heap) (locs : List Loc) (ls : Array Slot), wX0_coupled_85  post k2 x1 x2 x3 st → Cx D (wX o ad d) A s st H locs → lv_has ls 7 [(0, .ref o), (1, .int x1), (2, .int x2), (3, .int x3)] → W p l e (headSpec (ws_ yX0_coupled cX0_coupled 7 (some .int)) rmX0_coupled).room s m args below meth c H locs 0 0 (QI below D d E (wX o ad d) A args s 0 0 post) (F0 m 85 ls []) := by
  obtain ⟨hx, hb, hr, hml, hown, hts, hlk, hA, hK, hE⟩ := id F
  intro x1 x2 x3 st H locs ls hw C hl
  unfold wX0_coupled_85 at hw
  refine lv_iconst (v := 1) hx hb dX0_coupled_85 (by decide) ?_
  refine lv_goto (tgt := 90) hx hb dX0_coupled_86 (by decide) ?_
  exact kX0_coupled_90 hX F hk2 x1 x2 x3 1 st _ _ _ hw C hl
set_option maxHeartbeats 4000000 in
theorem kX0_coupled_2 (hX : ∀ U, E U → EL U) {post : Int32 → CS → Prop}  (F : Fx p s m args meth c cX0_coupled 7 RX0 (some .int) D d E A) : ∀ (fu : Nat) (x1 : Int32) (st : CS) (H : Heap) (locs : List Loc) (ls : Array Slot), wX0_coupled_2  post  fu x1 st → Cx D (wX o ad d) A s st H locs → lv_has ls 7 [(0, .ref o), (1, .int x1)] → W p l e (headSpec (ws_ yX0_coupled cX0_coupled 7 (some .int)) rmX0_coupled).room s m args below meth c H locs 0 0 (QI below D d E (wX o ad d) A args s 0 0 post) (F0 m 2 ls []) := by
  obtain ⟨hx, hb, hr, hml, hown, hts, hlk, hA, hK, hE⟩ := id F
  intro fu
  induction fu with
  | zero =>
    intro x1 st H locs ls hw
    exact hw.elim
  | succ n ih =>
    have hk2 := ih
    intro x1 st H locs ls hw C hl
    unfold wX0_coupled_2 at hw
    refine lv_iload_n hx hb dX0_coupled_2 rfl (lv_at hl 1 rfl) ?_
    refine lv_aload_n hx hb dX0_coupled_3 rfl (lv_at hl 0 rfl) ?_
    refine x0_g12 F C dX0_coupled_4 ?_
    refine lv_icmp_ge (tgt := 151) hx hb dX0_coupled_7 (by decide) (fun c_1 => ?_) (fun c_1 => ?_)
    · have hw := hw.1 c_1
      refine lv_bipush (v := (-9)) hx hb dX0_coupled_151 (by decide) ?_
      exact x_iret F C hw dX0_coupled_153
    · have hw := hw.2 c_1
      refine lv_aload_n hx hb dX0_coupled_10 rfl (lv_at hl 0 rfl) ?_
      refine x0_g13 F C dX0_coupled_11 ?_
      refine lv_iconst (v := 4) hx hb dX0_coupled_14 (by decide) ?_
      refine lv_iload_n hx hb dX0_coupled_15 rfl (lv_at hl 1 rfl) ?_
      refine lv_imul hx hb dX0_coupled_16 ?_
      obtain ⟨h_2, hw⟩ := hw
      refine x0_ld13 F C h_2 dX0_coupled_17 ?_
      refine lv_topi (fun x2_3 ex2_3 => ?_)
      have hw := hw x2_3 ex2_3
      refine lv_istore_n (lv' := [(2, .int x2_3), (0, .ref o), (1, .int x1)]) hx hb dX0_coupled_18 rfl hl (by decide) rfl (fun ls hl => ?_)
      refine lv_aload_n hx hb dX0_coupled_19 rfl (lv_at hl 1 rfl) ?_
      refine x0_g13 F C dX0_coupled_20 ?_
      refine lv_iconst (v := 4) hx hb dX0_coupled_23 (by decide) ?_
      refine lv_iload_n hx hb dX0_coupled_24 rfl (lv_at hl 2 rfl) ?_
      refine lv_imul hx hb dX0_coupled_25 ?_
      refine lv_iconst (v := 1) hx hb dX0_coupled_26 (by decide) ?_
      refine lv_iadd hx hb dX0_coupled_27 ?_
      obtain ⟨h_4, hw⟩ := hw
      refine x0_ld13 F C h_4 dX0_coupled_28 ?_
      refine lv_topi (fun x3_5 ex3_5 => ?_)
      have hw := hw x3_5 ex3_5
      refine lv_istore_n (lv' := [(3, .int x3_5), (2, .int x2_3), (0, .ref o), (1, .int x1)]) hx hb dX0_coupled_29 rfl hl (by decide) rfl (fun ls hl => ?_)
      refine lv_aload_n hx hb dX0_coupled_30 rfl (lv_at hl 2 rfl) ?_
      refine x0_g13 F C dX0_coupled_31 ?_
      refine lv_iconst (v := 4) hx hb dX0_coupled_34 (by decide) ?_
      refine lv_iload_n hx hb dX0_coupled_35 rfl (lv_at hl 3 rfl) ?_
      refine lv_imul hx hb dX0_coupled_36 ?_
      refine lv_iconst (v := 3) hx hb dX0_coupled_37 (by decide) ?_
      refine lv_iadd hx hb dX0_coupled_38 ?_
      obtain ⟨h_6, hw⟩ := hw
      refine x0_ld13 F C h_6 dX0_coupled_39 ?_
      refine lv_topi (fun x4_7 ex4_7 => ?_)
      have hw := hw x4_7 ex4_7
      refine lv_istore (lv' := [(4, .int x4_7), (3, .int x3_5), (2, .int x2_3), (0, .ref o), (1, .int x1)]) hx hb dX0_coupled_40 hl (by decide) rfl (fun ls hl => ?_)
      refine lv_aload_n hx hb dX0_coupled_42 rfl (lv_at hl 3 rfl) ?_
      refine x0_g13 F C dX0_coupled_43 ?_
      refine lv_iconst (v := 4) hx hb dX0_coupled_46 (by decide) ?_
      refine lv_iload_n hx hb dX0_coupled_47 rfl (lv_at hl 4 rfl) ?_
      refine lv_imul hx hb dX0_coupled_48 ?_
      refine lv_iconst (v := 2) hx hb dX0_coupled_49 (by decide) ?_
      refine lv_iadd hx hb dX0_coupled_50 ?_
      obtain ⟨h_8, hw⟩ := hw
      refine x0_ld13 F C h_8 dX0_coupled_51 ?_
      refine lv_aload_n hx hb dX0_coupled_52 rfl (lv_at hl 3 rfl) ?_
      refine x0_g9 F C dX0_coupled_53 ?_
      refine lv_aload_n hx hb dX0_coupled_56 rfl (lv_at hl 3 rfl) ?_
      refine x0_g16 F C dX0_coupled_57 ?_
      obtain ⟨h_9, hw⟩ := hw
      refine x0_ld9 F C h_9 dX0_coupled_60 ?_
      refine lv_icmp_gt (tgt := 89) hx hb dX0_coupled_61 (by decide) (fun c_10 => ?_) (fun c_10 => ?_)
      · have hw := hw.1 c_10
        exact kX0_coupled_89 hX F hk2 x1 x2_3 x3_5 st _ _ _ hw C (lv_sub hl [3, 4, 2, 1] rfl)
      · have hw := hw.2 c_10
        refine lv_iload hx hb dX0_coupled_64 (lv_at hl 0 rfl) ?_
        refine lv_bipush (v := (-9)) hx hb dX0_coupled_66 (by decide) ?_
        refine lv_icmp_eq (tgt := 85) hx hb dX0_coupled_68 (by decide) (fun c_18 => ?_) (fun c_18 => ?_)
        · have hw := hw.1 c_18
          exact kX0_coupled_85 hX F hk2 x1 x2_3 x3_5 st _ _ _ hw C (lv_sub hl [3, 4, 2, 1] rfl)
        · have hw := hw.2 c_18
          refine lv_iload hx hb dX0_coupled_71 (lv_at hl 0 rfl) ?_
          refine lv_aload_n hx hb dX0_coupled_73 rfl (lv_at hl 3 rfl) ?_
          refine x0_g9 F C dX0_coupled_74 ?_
          refine lv_aload_n hx hb dX0_coupled_77 rfl (lv_at hl 3 rfl) ?_
          refine x0_g16 F C dX0_coupled_78 ?_
          obtain ⟨h_19, hw⟩ := hw
          refine x0_ld9 F C h_19 dX0_coupled_81 ?_
          refine lv_icmp_lt (tgt := 89) hx hb dX0_coupled_82 (by decide) (fun c_20 => ?_) (fun c_20 => ?_)
          · have hw := hw.1 c_20
            exact kX0_coupled_89 hX F hk2 x1 x2_3 x3_5 st _ _ _ hw C (lv_sub hl [3, 4, 2, 1] rfl)
          · have hw := hw.2 c_20
            exact kX0_coupled_85 hX F hk2 x1 x2_3 x3_5 st _ _ _ hw C (lv_sub hl [3, 4, 2, 1] rfl)
theorem ctX0_coupled (hE : Em E) (hX : ∀ U, E U → EL U) {post : Int32 → CS → Prop} {s0 : CS}  (hw : wpX0_coupled  post s0 ) : CtI l yX0_coupled (ws_ yX0_coupled cX0_coupled 7 (some .int)) rmX0_coupled D d E (wX o ad d) 0 0 [.ref o] s0 post := by
  refine CtI.of hE (by decide) rfl (Nat.le_of_ble_eq_true rfl) ?_
  intro p e s m below meth c A ls F C hl
  have hl : lv_has ls 7 [(0, .ref o)] := hl
  unfold wpX0_coupled at hw
  obtain ⟨hx, hb, hr, hml, hown, hts, hlk, hA, hK, -⟩ := id F
  refine lv_iconst (v := 0) hx hb dX0_coupled_0 (by decide) ?_
  refine lv_istore_n (lv' := [(1, .int 0), (0, .ref o)]) hx hb dX0_coupled_1 rfl hl (by decide) rfl (fun ls hl => ?_)
  obtain ⟨fu, hw⟩ := hw
  exact kX0_coupled_2 hX F  fu 0 s0 _ _ _ hw C (lv_sub hl [1, 0] rfl)

abbrev rmX0_clearDues : Room := { frames := 0, cells := 0, slots := 0, locals := 0 }
def wX0_clearDues_72  (post : CS → Prop) (k2 : Int32 → CS → Prop) (x1 : Int32) (x2 : Int32) (st : CS) : Prop := (vp_in x2 24 ∧ ∀ s_8 : CS, s_8 = uA st 27 x2.toNatClampNeg x1 → (∀ x1_9 : Int32, x1_9 = x1 + 1 → (k2 x1_9 s_8)))
def wX0_clearDues_26  (post : CS → Prop) (k2 : Int32 → CS → Prop) : Nat → Int32 → Int32 → CS → Prop
  | 0 => fun _ _ _ => False
  | n + 1 => fun x1 x2 st => ((x2 ≤ 0 → (wX0_clearDues_72  post k2 x1 x2 st)) ∧ (¬ x2 ≤ 0 → (vp_in (x2 - 1) 24 ∧ (vp_in (sA st 27 (x2 - 1).toNatClampNeg) 24 ∧ (vp_in x1 24 ∧ (((sA st 8 (sA st 27 (x2 - 1).toNatClampNeg).toNatClampNeg) ≤ (sA st 8 x1.toNatClampNeg) → (wX0_clearDues_72  post k2 x1 x2 st)) ∧ (¬ (sA st 8 (sA st 27 (x2 - 1).toNatClampNeg).toNatClampNeg) ≤ (sA st 8 x1.toNatClampNeg) → (vp_in (x2 - 1) 24 ∧ (vp_in x2 24 ∧ ∀ s_16 : CS, s_16 = uA st 27 x2.toNatClampNeg (sA st 27 (x2 - 1).toNatClampNeg) → (∀ x2_17 : Int32, x2_17 = x2 + (-1) → (wX0_clearDues_26  post k2 n x1 x2_17 s_16)))))))))))
def wX0_clearDues_2  (post : CS → Prop)  : Nat → Int32 → CS → Prop
  | 0 => fun _ _ => False
  | n + 1 => fun x1 st => (((sI st 6) ≤ x1 → (post st)) ∧ (¬ (sI st 6) ≤ x1 → (vp_in x1 24 ∧ ∀ s_3 : CS, s_3 = uM st 25 x1.toNatClampNeg 0 → (vp_in x1 24 ∧ ∀ s_5 : CS, s_5 = uM s_3 26 x1.toNatClampNeg 1 → (∃ fu : Nat, wX0_clearDues_26  post (wX0_clearDues_2  post  n) fu x1 x1 s_5)))))
def wpX0_clearDues  (post : CS → Prop) (s0 : CS)  : Prop := (∃ fu : Nat, wX0_clearDues_2  post  fu 0 s0)
set_option maxHeartbeats 4000000 in
theorem kX0_clearDues_72 (hX : ∀ U, E U → EL U) {post : CS → Prop} {k2 : Int32 → CS → Prop} (F : Fx p s m args meth c cX0_clearDues 3 RX0 none D d E A) (hk2 : ∀ (x1 : Int32) (st : CS) (H : Heap) (locs : List Loc) (ls : Array Slot), k2 x1 st → Cx D (wX o ad d) A s st H locs → lv_has ls 3 [(0, .ref o), (1, .int x1)] → W p l e (headSpec (ws_ yX0_clearDues cX0_clearDues 3 none) rmX0_clearDues).room s m args below meth c H locs 0 0 (QV below D d E (wX o ad d) A args s 0 0 post) (F0 m 2 ls [])) : ∀ (x1 : Int32) (x2 : Int32) (st : CS) (H : Heap) (locs : List Loc) (ls : Array Slot), wX0_clearDues_72  post k2 x1 x2 st → Cx D (wX o ad d) A s st H locs → lv_has ls 3 [(0, .ref o), (1, .int x1), (2, .int x2)] → W p l e (headSpec (ws_ yX0_clearDues cX0_clearDues 3 none) rmX0_clearDues).room s m args below meth c H locs 0 0 (QV below D d E (wX o ad d) A args s 0 0 post) (F0 m 72 ls []) := by
  obtain ⟨hx, hb, hr, hml, hown, hts, hlk, hA, hK, hE⟩ := id F
  intro x1 x2 st H locs ls hw C hl
  unfold wX0_clearDues_72 at hw
  refine lv_aload_n hx hb dX0_clearDues_72 rfl (lv_at hl 0 rfl) ?_
  refine x0_g27 F C dX0_clearDues_73 ?_
  refine lv_iload_n hx hb dX0_clearDues_76 rfl (lv_at hl 2 rfl) ?_
  refine lv_iload_n hx hb dX0_clearDues_77 rfl (lv_at hl 1 rfl) ?_
  obtain ⟨h_7, hw⟩ := hw
  refine x0_st27 F C h_7 dX0_clearDues_78 (fun H locs s_8 es_8 C => ?_)
  have hw := hw s_8 es_8
  obtain ⟨x1_9, ex1_9⟩ : ∃ y : Int32, y = x1 + 1 := ⟨_, rfl⟩
  have hw := hw x1_9 ex1_9
  refine lv_iinc (v := x1_9) (lv' := [(1, .int x1_9), (0, .ref o), (2, .int x2)]) hx hb dX0_clearDues_79 hl (k := 1) rfl (by rw [ex1_9]; rfl) (by decide) rfl (fun ls hl => ?_)
  refine lv_goto (tgt := 2) hx hb dX0_clearDues_82 (by decide) ?_
  exact hk2 x1_9 s_8 _ _ _ hw C (lv_sub hl [1, 0] rfl)
set_option maxHeartbeats 4000000 in
theorem kX0_clearDues_26 (hX : ∀ U, E U → EL U) {post : CS → Prop} {k2 : Int32 → CS → Prop} (F : Fx p s m args meth c cX0_clearDues 3 RX0 none D d E A) (hk2 : ∀ (x1 : Int32) (st : CS) (H : Heap) (locs : List Loc) (ls : Array Slot), k2 x1 st → Cx D (wX o ad d) A s st H locs → lv_has ls 3 [(0, .ref o), (1, .int x1)] → W p l e (headSpec (ws_ yX0_clearDues cX0_clearDues 3 none) rmX0_clearDues).room s m args below meth c H locs 0 0 (QV below D d E (wX o ad d) A args s 0 0 post) (F0 m 2 ls [])) : ∀ (fu : Nat) (x1 : Int32) (x2 : Int32) (st : CS) (H : Heap) (locs : List Loc) (ls : Array Slot), wX0_clearDues_26  post k2 fu x1 x2 st → Cx D (wX o ad d) A s st H locs → lv_has ls 3 [(0, .ref o), (1, .int x1), (2, .int x2)] → W p l e (headSpec (ws_ yX0_clearDues cX0_clearDues 3 none) rmX0_clearDues).room s m args below meth c H locs 0 0 (QV below D d E (wX o ad d) A args s 0 0 post) (F0 m 26 ls []) := by
  obtain ⟨hx, hb, hr, hml, hown, hts, hlk, hA, hK, hE⟩ := id F
  intro fu
  induction fu with
  | zero =>
    intro x1 x2 st H locs ls hw
    exact hw.elim
  | succ n ih =>
    have hk26 := ih
    intro x1 x2 st H locs ls hw C hl
    unfold wX0_clearDues_26 at hw
    refine lv_iload_n hx hb dX0_clearDues_26 rfl (lv_at hl 2 rfl) ?_
    refine lv_if_le (tgt := 72) hx hb dX0_clearDues_27 (by decide) (fun c_6 => ?_) (fun c_6 => ?_)
    · have hw := hw.1 c_6
      exact kX0_clearDues_72 hX F hk2 x1 x2 st _ _ _ hw C hl
    · have hw := hw.2 c_6
      refine lv_aload_n hx hb dX0_clearDues_30 rfl (lv_at hl 0 rfl) ?_
      refine x0_g8 F C dX0_clearDues_31 ?_
      refine lv_aload_n hx hb dX0_clearDues_34 rfl (lv_at hl 0 rfl) ?_
      refine x0_g27 F C dX0_clearDues_35 ?_
      refine lv_iload_n hx hb dX0_clearDues_38 rfl (lv_at hl 2 rfl) ?_
      refine lv_iconst (v := 1) hx hb dX0_clearDues_39 (by decide) ?_
      refine lv_isub hx hb dX0_clearDues_40 ?_
      obtain ⟨h_10, hw⟩ := hw
      refine x0_ld27 F C h_10 dX0_clearDues_41 ?_
      obtain ⟨h_11, hw⟩ := hw
      refine x0_ld8 F C h_11 dX0_clearDues_42 ?_
      refine lv_aload_n hx hb dX0_clearDues_43 rfl (lv_at hl 0 rfl) ?_
      refine x0_g8 F C dX0_clearDues_44 ?_
      refine lv_iload_n hx hb dX0_clearDues_47 rfl (lv_at hl 1 rfl) ?_
      obtain ⟨h_12, hw⟩ := hw
      refine x0_ld8 F C h_12 dX0_clearDues_48 ?_
      refine lv_icmp_le (tgt := 72) hx hb dX0_clearDues_49 (by decide) (fun c_13 => ?_) (fun c_13 => ?_)
      · have hw := hw.1 c_13
        exact kX0_clearDues_72 hX F hk2 x1 x2 st _ _ _ hw C hl
      · have hw := hw.2 c_13
        refine lv_aload_n hx hb dX0_clearDues_52 rfl (lv_at hl 0 rfl) ?_
        refine x0_g27 F C dX0_clearDues_53 ?_
        refine lv_iload_n hx hb dX0_clearDues_56 rfl (lv_at hl 2 rfl) ?_
        refine lv_aload_n hx hb dX0_clearDues_57 rfl (lv_at hl 0 rfl) ?_
        refine x0_g27 F C dX0_clearDues_58 ?_
        refine lv_iload_n hx hb dX0_clearDues_61 rfl (lv_at hl 2 rfl) ?_
        refine lv_iconst (v := 1) hx hb dX0_clearDues_62 (by decide) ?_
        refine lv_isub hx hb dX0_clearDues_63 ?_
        obtain ⟨h_14, hw⟩ := hw
        refine x0_ld27 F C h_14 dX0_clearDues_64 ?_
        obtain ⟨h_15, hw⟩ := hw
        refine x0_st27 F C h_15 dX0_clearDues_65 (fun H locs s_16 es_16 C => ?_)
        have hw := hw s_16 es_16
        obtain ⟨x2_17, ex2_17⟩ : ∃ y : Int32, y = x2 + (-1) := ⟨_, rfl⟩
        have hw := hw x2_17 ex2_17
        refine lv_iinc (v := x2_17) (lv' := [(2, .int x2_17), (0, .ref o), (1, .int x1)]) hx hb dX0_clearDues_66 hl (k := 2) rfl (by rw [ex2_17]; rfl) (by decide) rfl (fun ls hl => ?_)
        refine lv_goto (tgt := 26) hx hb dX0_clearDues_69 (by decide) ?_
        exact hk26 x1 x2_17 s_16 _ _ _ hw C (lv_sub hl [1, 2, 0] rfl)
set_option maxHeartbeats 4000000 in
theorem kX0_clearDues_2 (hX : ∀ U, E U → EL U) {post : CS → Prop}  (F : Fx p s m args meth c cX0_clearDues 3 RX0 none D d E A) : ∀ (fu : Nat) (x1 : Int32) (st : CS) (H : Heap) (locs : List Loc) (ls : Array Slot), wX0_clearDues_2  post  fu x1 st → Cx D (wX o ad d) A s st H locs → lv_has ls 3 [(0, .ref o), (1, .int x1)] → W p l e (headSpec (ws_ yX0_clearDues cX0_clearDues 3 none) rmX0_clearDues).room s m args below meth c H locs 0 0 (QV below D d E (wX o ad d) A args s 0 0 post) (F0 m 2 ls []) := by
  obtain ⟨hx, hb, hr, hml, hown, hts, hlk, hA, hK, hE⟩ := id F
  intro fu
  induction fu with
  | zero =>
    intro x1 st H locs ls hw
    exact hw.elim
  | succ n ih =>
    have hk2 := ih
    intro x1 st H locs ls hw C hl
    unfold wX0_clearDues_2 at hw
    refine lv_iload_n hx hb dX0_clearDues_2 rfl (lv_at hl 1 rfl) ?_
    refine lv_aload_n hx hb dX0_clearDues_3 rfl (lv_at hl 0 rfl) ?_
    refine x0_g6 F C dX0_clearDues_4 ?_
    refine lv_icmp_ge (tgt := 85) hx hb dX0_clearDues_7 (by decide) (fun c_1 => ?_) (fun c_1 => ?_)
    · have hw := hw.1 c_1
      exact x_vret F C hw dX0_clearDues_85
    · have hw := hw.2 c_1
      refine lv_aload_n hx hb dX0_clearDues_10 rfl (lv_at hl 0 rfl) ?_
      refine x0_g25 F C dX0_clearDues_11 ?_
      refine lv_iload_n hx hb dX0_clearDues_14 rfl (lv_at hl 1 rfl) ?_
      refine lv_lconst (v := 0) hx hb dX0_clearDues_15 (by decide) ?_
      obtain ⟨h_2, hw⟩ := hw
      refine x0_st25 F C h_2 dX0_clearDues_16 (fun H locs s_3 es_3 C => ?_)
      have hw := hw s_3 es_3
      refine lv_aload_n hx hb dX0_clearDues_17 rfl (lv_at hl 0 rfl) ?_
      refine x0_g26 F C dX0_clearDues_18 ?_
      refine lv_iload_n hx hb dX0_clearDues_21 rfl (lv_at hl 1 rfl) ?_
      refine lv_lconst (v := 1) hx hb dX0_clearDues_22 (by decide) ?_
      obtain ⟨h_4, hw⟩ := hw
      refine x0_st26 F C h_4 dX0_clearDues_23 (fun H locs s_5 es_5 C => ?_)
      have hw := hw s_5 es_5
      refine lv_iload_n hx hb dX0_clearDues_24 rfl (lv_at hl 1 rfl) ?_
      refine lv_istore_n (lv' := [(2, .int x1), (0, .ref o), (1, .int x1)]) hx hb dX0_clearDues_25 rfl hl (by decide) rfl (fun ls hl => ?_)
      obtain ⟨fu, hw⟩ := hw
      exact kX0_clearDues_26 hX F hk2 fu x1 x1 s_5 _ _ _ hw C (lv_sub hl [1, 2, 0] rfl)
theorem ctX0_clearDues (hE : Em E) (hX : ∀ U, E U → EL U) {post : CS → Prop} {s0 : CS}  (hw : wpX0_clearDues  post s0 ) : CtV l yX0_clearDues (ws_ yX0_clearDues cX0_clearDues 3 none) rmX0_clearDues D d E (wX o ad d) 0 0 [.ref o] s0 post := by
  refine CtV.of hE (by decide) rfl (Nat.le_of_ble_eq_true rfl) ?_
  intro p e s m below meth c A ls F C hl
  have hl : lv_has ls 3 [(0, .ref o)] := hl
  unfold wpX0_clearDues at hw
  obtain ⟨hx, hb, hr, hml, hown, hts, hlk, hA, hK, -⟩ := id F
  refine lv_iconst (v := 0) hx hb dX0_clearDues_0 (by decide) ?_
  refine lv_istore_n (lv' := [(1, .int 0), (0, .ref o)]) hx hb dX0_clearDues_1 rfl hl (by decide) rfl (fun ls hl => ?_)
  obtain ⟨fu, hw⟩ := hw
  exact kX0_clearDues_2 hX F  fu 0 s0 _ _ _ hw C (lv_sub hl [1, 0] rfl)

abbrev rmX0_gcd : Room := { frames := 1, cells := 0, slots := 0, locals := 15 }
def wX0_gcd_9  (post : Int64 → CS → Prop)  : Nat → Int64 → Int64 → CS → Prop
  | 0 => fun _ _ _ => False
  | n + 1 => fun x4 x6 st => ((x6 = 0 → (post x4 st)) ∧ (¬ x6 = 0 → (¬ x6 = 0 ∧ (∀ x8_4 : Int64, x8_4 = (x4 - x4 / x6 * x6) → (wX0_gcd_9  post  n x6 x8_4 st)))))
def wpX0_gcd  (post : Int64 → CS → Prop) (s0 : CS) (p0 : Int64) (p1 : Int64) : Prop := (∀ x4_1 : Int64, x4_1 = (if 0 < p0 then p0 else -p0) → (∃ fu : Nat, wX0_gcd_9  post  fu x4_1 p1 s0))
set_option maxHeartbeats 4000000 in
theorem kX0_gcd_9  {post : Int64 → CS → Prop}  (F : Fx p s m args meth c cX0_gcd 10 RX0 (some .long) D d E A) : ∀ (fu : Nat) (x4 : Int64) (x6 : Int64) (st : CS) (H : Heap) (locs : List Loc) (ls : Array Slot), wX0_gcd_9  post  fu x4 x6 st → Cx D wf A s st H locs → lv_has ls 10 [(4, .long x4), (6, .long x6)] → W p l e (headSpec (ws_ yX0_gcd cX0_gcd 10 (some .long)) rmX0_gcd).room s m args below meth c H locs 0 0 (QL below D d E wf A args s 0 0 post) (F0 m 9 ls []) := by
  obtain ⟨hx, hb, hr, hml, hown, hts, hlk, hA, hK, hE⟩ := id F
  intro fu
  induction fu with
  | zero =>
    intro x4 x6 st H locs ls hw
    exact hw.elim
  | succ n ih =>
    have hk9 := ih
    intro x4 x6 st H locs ls hw C hl
    unfold wX0_gcd_9 at hw
    refine lv_lload hx hb dX0_gcd_9 (lv_at hl 1 rfl) ?_
    refine lv_lconst (v := 0) hx hb dX0_gcd_11 (by decide) ?_
    refine W.lcmp hx hb dX0_gcd_12 ?_
    refine lv_if_eq (tgt := 34) hx hb dX0_gcd_13 (by decide) (fun c_2 => ?_) (fun c_2 => ?_)
    · have hw := hw.1 ((lg_cmp_eq _ _).mp c_2)
      refine lv_lload hx hb dX0_gcd_34 (lv_at hl 0 rfl) ?_
      exact x_lret F C hw dX0_gcd_36
    · have hw := hw.2 (fun h9 => c_2 ((lg_cmp_eq _ _).mpr h9))
      refine lv_lload hx hb dX0_gcd_16 (lv_at hl 0 rfl) ?_
      refine lv_lload hx hb dX0_gcd_18 (lv_at hl 1 rfl) ?_
      obtain ⟨h_3, hw⟩ := hw
      refine lv_lrem hx hb dX0_gcd_20 h_3 ?_
      refine lv_topl (fun x8_4 ex8_4 => ?_)
      have hw := hw x8_4 ex8_4
      refine lv_lstore (lv' := [(8, .long x8_4), (4, .long x4), (6, .long x6)]) hx hb dX0_gcd_21 hl (by decide) rfl (fun ls hl => ?_)
      refine lv_lload hx hb dX0_gcd_23 (lv_at hl 2 rfl) ?_
      refine lv_lstore (lv' := [(4, .long x6), (8, .long x8_4), (6, .long x6)]) hx hb dX0_gcd_25 hl (by decide) rfl (fun ls hl => ?_)
      refine lv_lload hx hb dX0_gcd_27 (lv_at hl 1 rfl) ?_
      refine lv_lstore (lv' := [(6, .long x8_4), (4, .long x6), (8, .long x8_4)]) hx hb dX0_gcd_29 hl (by decide) rfl (fun ls hl => ?_)
      refine lv_goto (tgt := 9) hx hb dX0_gcd_31 (by decide) ?_
      exact hk9 x6 x8_4 st _ _ _ hw C (lv_sub hl [1, 0] rfl)
theorem ctX0_gcd (hE : Em E)  {post : Int64 → CS → Prop} {s0 : CS} {p0 p1 : Int64} (hw : wpX0_gcd  post s0 p0 p1) : CtL l yX0_gcd (ws_ yX0_gcd cX0_gcd 10 (some .long)) rmX0_gcd D d E wf 0 0 [.long p0, .long p1] s0 post := by
  refine CtL.of hE (by decide) rfl (Nat.le_of_ble_eq_true rfl) ?_
  intro p e s m below meth c A ls F C hl
  have hl : lv_has ls 10 [(0, .long p0), (2, .long p1)] := hl
  unfold wpX0_gcd at hw
  obtain ⟨hx, hb, hr, hml, hown, hts, hlk, hA, hK, -⟩ := id F
  refine lv_lload_n hx hb dX0_gcd_0 rfl (lv_at hl 0 rfl) ?_
  refine va_mabs_long hx hb (by rw [hml]; exact hl.1.symm) hown (hts _ q598) (hts _ q599) (hts _ q81) (hts _ q600) (Nat.le_of_ble_eq_true rfl) (Nat.le_of_ble_eq_true rfl) (Nat.zero_le _) (Nat.zero_le _) dX0_gcd_1 ?_
  refine lv_topl (fun x4_1 ex4_1 => ?_)
  have hw := hw x4_1 ex4_1
  refine lv_lstore (lv' := [(4, .long x4_1), (0, .long p0), (2, .long p1)]) hx hb dX0_gcd_4 hl (by decide) rfl (fun ls hl => ?_)
  refine lv_lload_n hx hb dX0_gcd_6 rfl (lv_at hl 2 rfl) ?_
  refine lv_lstore (lv' := [(6, .long p1), (4, .long x4_1), (0, .long p0), (2, .long p1)]) hx hb dX0_gcd_7 hl (by decide) rfl (fun ls hl => ?_)
  obtain ⟨fu, hw⟩ := hw
  exact kX0_gcd_9  F  fu x4_1 p1 s0 _ _ _ hw C (lv_sub hl [1, 0] rfl)

abbrev rmX0_add : Room := { frames := 2, cells := 0, slots := 0, locals := 44 }
def wpX0_add  (post : CS → Prop) (s0 : CS) (p0 : Int64) (p1 : Int64) (p2 : Int64) (p3 : Int64) : Prop := (wpX0_gcd (fun r_2 s_1 => (¬ r_2 = 0 ∧ (¬ r_2 = 0 ∧ (∀ x11_5 : Int64, x11_5 = ((p0 * (p3 / r_2)) + (p2 * (p1 / r_2))) → (¬ r_2 = 0 ∧ (∀ x13_7 : Int64, x13_7 = ((p1 / r_2) * p3) → (wpX0_gcd (fun r_9 s_8 => (¬ r_9 = 0 ∧ (∀ s_11 : CS, s_11 = uL s_8 4 (x11_5 / r_9) → (¬ r_9 = 0 ∧ (∀ s_13 : CS, s_13 = uL s_11 5 (x13_7 / r_9) → (post s_13)))))) s_1 x11_5 x13_7))))))) s0 p1 p3)
theorem ctX0_add (hE : Em E) (hX : ∀ U, E U → EL U) {post : CS → Prop} {s0 : CS} {p0 p1 p2 p3 : Int64} (hw : wpX0_add  post s0 p0 p1 p2 p3) : CtV l yX0_add (ws_ yX0_add cX0_add 17 none) rmX0_add D d E (wX o ad d) 0 0 [.ref o, .long p0, .long p1, .long p2, .long p3] s0 post := by
  refine CtV.of hE (by decide) rfl (Nat.le_of_ble_eq_true rfl) ?_
  intro p e s m below meth c A ls F C hl
  have hl : lv_has ls 17 [(0, .ref o), (1, .long p0), (3, .long p1), (5, .long p2), (7, .long p3)] := hl
  unfold wpX0_add at hw
  obtain ⟨hx, hb, hr, hml, hown, hts, hlk, hA, hK, -⟩ := id F
  refine lv_lload_n hx hb dX0_add_0 rfl (lv_at hl 2 rfl) ?_
  refine lv_lload hx hb dX0_add_1 (lv_at hl 4 rfl) ?_
  refine x_callSL (rest := []) F C (ctX0_gcd hE hw) (va_cwS 2 hts (lw_S q595 q596 q70 q597) rfl rfl rfl (by decide +kernel) ⟨Nat.le_of_ble_eq_true rfl, Nat.le_of_ble_eq_true rfl⟩) rfl hl.1 rfl (Nat.le_of_ble_eq_true rfl) dX0_add_3 ⟨Nat.zero_le _, Nat.zero_le _⟩ (fun r_2 s_1 H locs hw C => ?_)
  refine lv_lstore (lv' := [(9, .long r_2), (0, .ref o), (1, .long p0), (3, .long p1), (5, .long p2), (7, .long p3)]) hx hb dX0_add_6 hl (by decide) rfl (fun ls hl => ?_)
  refine lv_lload_n hx hb dX0_add_8 rfl (lv_at hl 2 rfl) ?_
  refine lv_lload hx hb dX0_add_9 (lv_at hl 5 rfl) ?_
  refine lv_lload hx hb dX0_add_11 (lv_at hl 0 rfl) ?_
  obtain ⟨h_3, hw⟩ := hw
  refine lv_ldiv hx hb dX0_add_13 h_3 ?_
  refine lv_lmul hx hb dX0_add_14 ?_
  refine lv_lload hx hb dX0_add_15 (lv_at hl 4 rfl) ?_
  refine lv_lload_n hx hb dX0_add_17 rfl (lv_at hl 3 rfl) ?_
  refine lv_lload hx hb dX0_add_18 (lv_at hl 0 rfl) ?_
  obtain ⟨h_4, hw⟩ := hw
  refine lv_ldiv hx hb dX0_add_20 h_4 ?_
  refine lv_lmul hx hb dX0_add_21 ?_
  refine lv_ladd hx hb dX0_add_22 ?_
  refine lv_topl (fun x11_5 ex11_5 => ?_)
  have hw := hw x11_5 ex11_5
  refine lv_lstore (lv' := [(11, .long x11_5), (9, .long r_2), (0, .ref o), (1, .long p0), (3, .long p1), (5, .long p2), (7, .long p3)]) hx hb dX0_add_23 hl (by decide) rfl (fun ls hl => ?_)
  refine lv_lload_n hx hb dX0_add_25 rfl (lv_at hl 4 rfl) ?_
  refine lv_lload hx hb dX0_add_26 (lv_at hl 1 rfl) ?_
  obtain ⟨h_6, hw⟩ := hw
  refine lv_ldiv hx hb dX0_add_28 h_6 ?_
  refine lv_lload hx hb dX0_add_29 (lv_at hl 6 rfl) ?_
  refine lv_lmul hx hb dX0_add_31 ?_
  refine lv_topl (fun x13_7 ex13_7 => ?_)
  have hw := hw x13_7 ex13_7
  refine lv_lstore (lv' := [(13, .long x13_7), (11, .long x11_5), (9, .long r_2), (0, .ref o), (1, .long p0), (3, .long p1), (5, .long p2), (7, .long p3)]) hx hb dX0_add_32 hl (by decide) rfl (fun ls hl => ?_)
  refine lv_lload hx hb dX0_add_34 (lv_at hl 1 rfl) ?_
  refine lv_lload hx hb dX0_add_36 (lv_at hl 0 rfl) ?_
  refine x_callSL (rest := []) F C (ctX0_gcd hE hw) (va_cwS 2 hts (lw_S q595 q596 q70 q597) rfl rfl rfl (by decide +kernel) ⟨Nat.le_of_ble_eq_true rfl, Nat.le_of_ble_eq_true rfl⟩) rfl hl.1 rfl (Nat.le_of_ble_eq_true rfl) dX0_add_38 ⟨Nat.zero_le _, Nat.zero_le _⟩ (fun r_9 s_8 H locs hw C => ?_)
  refine lv_lstore (lv' := [(15, .long r_9), (13, .long x13_7), (11, .long x11_5), (9, .long r_2), (0, .ref o), (1, .long p0), (3, .long p1), (5, .long p2), (7, .long p3)]) hx hb dX0_add_41 hl (by decide) rfl (fun ls hl => ?_)
  refine lv_aload_n hx hb dX0_add_43 rfl (lv_at hl 4 rfl) ?_
  refine lv_lload hx hb dX0_add_44 (lv_at hl 2 rfl) ?_
  refine lv_lload hx hb dX0_add_46 (lv_at hl 0 rfl) ?_
  obtain ⟨h_10, hw⟩ := hw
  refine lv_ldiv hx hb dX0_add_48 h_10 ?_
  refine x0_p4 F C dX0_add_49 (fun H locs s_11 es_11 C => ?_)
  have hw := hw s_11 es_11
  refine lv_aload_n hx hb dX0_add_52 rfl (lv_at hl 4 rfl) ?_
  refine lv_lload hx hb dX0_add_53 (lv_at hl 1 rfl) ?_
  refine lv_lload hx hb dX0_add_55 (lv_at hl 0 rfl) ?_
  obtain ⟨h_12, hw⟩ := hw
  refine lv_ldiv hx hb dX0_add_57 h_12 ?_
  refine x0_p5 F C dX0_add_58 (fun H locs s_13 es_13 C => ?_)
  have hw := hw s_13 es_13
  exact x_vret F C hw dX0_add_61

abbrev rmX0_comesTo : Room := { frames := 3, cells := 0, slots := 0, locals := 80 }
def wpX0_comesTo  (post : CS → Prop) (s0 : CS) (p0 : Int32) (p1 : Int64) (p2 : Int64) : Prop := (vp_in p0 24 ∧ (vp_in p0 24 ∧ (wpX0_add (fun s_3 => (vp_in p0 24 ∧ ∀ s_6 : CS, s_6 = uM s_3 25 p0.toNatClampNeg (sL s_3 4) → (vp_in p0 24 ∧ ∀ s_8 : CS, s_8 = uM s_6 26 p0.toNatClampNeg (sL s_6 5) → (post s_8)))) s0 (sM s0 25 p0.toNatClampNeg) (sM s0 26 p0.toNatClampNeg) p1 p2)))
theorem ctX0_comesTo (hE : Em E) (hX : ∀ U, E U → EL U) {post : CS → Prop} {s0 : CS} {p0 : Int32} {p1 : Int64} {p2 : Int64} (hw : wpX0_comesTo  post s0 p0 p1 p2) : CtV l yX0_comesTo (ws_ yX0_comesTo cX0_comesTo 6 none) rmX0_comesTo D d E (wX o ad d) 0 0 [.ref o, .int p0, .long p1, .long p2] s0 post := by
  refine CtV.of hE (by decide) rfl (Nat.le_of_ble_eq_true rfl) ?_
  intro p e s m below meth c A ls F C hl
  have hl : lv_has ls 6 [(0, .ref o), (1, .int p0), (2, .long p1), (4, .long p2)] := hl
  unfold wpX0_comesTo at hw
  obtain ⟨hx, hb, hr, hml, hown, hts, hlk, hA, hK, -⟩ := id F
  refine lv_aload_n hx hb dX0_comesTo_0 rfl (lv_at hl 0 rfl) ?_
  refine lv_aload_n hx hb dX0_comesTo_1 rfl (lv_at hl 0 rfl) ?_
  refine x0_g25 F C dX0_comesTo_2 ?_
  refine lv_iload_n hx hb dX0_comesTo_5 rfl (lv_at hl 1 rfl) ?_
  obtain ⟨h_1, hw⟩ := hw
  refine x0_ld25 F C h_1 dX0_comesTo_6 ?_
  refine lv_aload_n hx hb dX0_comesTo_7 rfl (lv_at hl 0 rfl) ?_
  refine x0_g26 F C dX0_comesTo_8 ?_
  refine lv_iload_n hx hb dX0_comesTo_11 rfl (lv_at hl 1 rfl) ?_
  obtain ⟨h_2, hw⟩ := hw
  refine x0_ld26 F C h_2 dX0_comesTo_12 ?_
  refine lv_lload_n hx hb dX0_comesTo_13 rfl (lv_at hl 2 rfl) ?_
  refine lv_lload hx hb dX0_comesTo_14 (lv_at hl 3 rfl) ?_
  refine x_callV (rest := []) (ci := 0) (q := (RX0, TX0, 41)) F C (ctX0_add hE hX hw) (cwV 4 hts (lw_V q591 q593 qs23 q70 q594) rfl rfl rfl (by decide +kernel) ⟨Nat.le_of_ble_eq_true rfl, Nat.le_of_ble_eq_true rfl⟩) rfl rfl rfl hl.1 rfl (Nat.le_of_ble_eq_true rfl) dX0_comesTo_16 ⟨Nat.zero_le _, Nat.zero_le _⟩ (fun s_3 H locs hw C => ?_)
  refine lv_aload_n hx hb dX0_comesTo_19 rfl (lv_at hl 0 rfl) ?_
  refine x0_g25 F C dX0_comesTo_20 ?_
  refine lv_iload_n hx hb dX0_comesTo_23 rfl (lv_at hl 1 rfl) ?_
  refine lv_aload_n hx hb dX0_comesTo_24 rfl (lv_at hl 0 rfl) ?_
  refine x0_g4 F C dX0_comesTo_25 ?_
  obtain ⟨h_5, hw⟩ := hw
  refine x0_st25 F C h_5 dX0_comesTo_28 (fun H locs s_6 es_6 C => ?_)
  have hw := hw s_6 es_6
  refine lv_aload_n hx hb dX0_comesTo_29 rfl (lv_at hl 0 rfl) ?_
  refine x0_g26 F C dX0_comesTo_30 ?_
  refine lv_iload_n hx hb dX0_comesTo_33 rfl (lv_at hl 1 rfl) ?_
  refine lv_aload_n hx hb dX0_comesTo_34 rfl (lv_at hl 0 rfl) ?_
  refine x0_g5 F C dX0_comesTo_35 ?_
  obtain ⟨h_7, hw⟩ := hw
  refine x0_st26 F C h_7 dX0_comesTo_38 (fun H locs s_8 es_8 C => ?_)
  have hw := hw s_8 es_8
  exact x_vret F C hw dX0_comesTo_39

abbrev rmX0_partsAmong : Room := { frames := 51, cells := 0, slots := 0, locals := 1121 }
def wX0_partsAmong_146  (post : CS → Prop) (k75 : Int32 → Int64 → Int64 → Int32 → Int32 → CS → Prop) (x1 : Int32) (x2 : Int64) (x4 : Int64) (x6 : Int32) (x7 : Int32) (st : CS) : Prop := (∀ x7_5 : Int32, x7_5 = x7 + 1 → (k75 x1 x2 x4 x6 x7_5 st))
def wX0_partsAmong_75  (post : CS → Prop)  : Nat → Int32 → Int64 → Int64 → Int32 → Int32 → CS → Prop
  | 0 => fun _ _ _ _ _ _ => False
  | n + 1 => fun x1 x2 x4 x6 x7 st => (((sI st 11) ≤ x7 → (post st)) ∧ (¬ (sI st 11) ≤ x7 → (vp_in x7 40 ∧ (((sA st 20 x7.toNatClampNeg) = 0 → (wX0_partsAmong_146  post (wX0_partsAmong_75  post  n) x1 x2 x4 x6 x7 st)) ∧ (¬ (sA st 20 x7.toNatClampNeg) = 0 → (vp_in x7 40 ∧ ∃ a_7 : Nat, sR st 10 x7.toNatClampNeg = some a_7 ∧ (okE st a_7 ∧ ((((sE st a_7).2.2 0) = x1 → (vp_in x7 40 ∧ ∃ a_11 : Nat, sR st 10 x7.toNatClampNeg = some a_11 ∧ (okE st a_11 ∧ (wpX0_isIn 25 (fun r_14 s_13 => ((r_14 = 0 → (wX0_partsAmong_146  post (wX0_partsAmong_75  post  n) x1 x2 x4 x6 x7 s_13)) ∧ (¬ r_14 = 0 → (vp_in x7 40 ∧ ∃ a_17 : Nat, sR s_13 10 x7.toNatClampNeg = some a_17 ∧ (okE s_13 a_17 ∧ (wpX0_comesTo (fun s_19 => (wX0_partsAmong_146  post (wX0_partsAmong_75  post  n) x1 x2 x4 x6 x7 s_19)) s_13 ((sE s_13 a_17).2.2 1) x2 (x4 * x6.toInt64))))))) st ((sE st a_11).2.2 1))))) ∧ (¬ ((sE st a_7).2.2 0) = x1 → (wX0_partsAmong_146  post (wX0_partsAmong_75  post  n) x1 x2 x4 x6 x7 st))))))))))
def wX0_partsAmong_63  (post : CS → Prop) (k6 : Int32 → Int64 → Int64 → Int32 → Int32 → CS → Prop) (x1 : Int32) (x2 : Int64) (x4 : Int64) (x7 : Int32) (y0 : Int32) (y1 : Int32) (st : CS) : Prop := (∀ x6_23 : Int32, x6_23 = (y1 + y0) → (∀ x7_24 : Int32, x7_24 = x7 + 1 → (k6 x1 x2 x4 x6_23 x7_24 st)))
def wX0_partsAmong_62  (post : CS → Prop) (k6 : Int32 → Int64 → Int64 → Int32 → Int32 → CS → Prop) (x1 : Int32) (x2 : Int64) (x4 : Int64) (x7 : Int32) (y0 : Int32) (st : CS) : Prop := (wX0_partsAmong_63  post k6 x1 x2 x4 x7 0 y0 st)
def wX0_partsAmong_6  (post : CS → Prop)  : Nat → Int32 → Int64 → Int64 → Int32 → Int32 → CS → Prop
  | 0 => fun _ _ _ _ _ _ => False
  | n + 1 => fun x1 x2 x4 x6 x7 st => (((sI st 11) ≤ x7 → (∃ fu : Nat, wX0_partsAmong_75  post  fu x1 x2 x4 x6 0 st)) ∧ (¬ (sI st 11) ≤ x7 → (vp_in x7 40 ∧ (((sA st 20 x7.toNatClampNeg) = 0 → (wX0_partsAmong_62  post (wX0_partsAmong_6  post  n) x1 x2 x4 x7 x6 st)) ∧ (¬ (sA st 20 x7.toNatClampNeg) = 0 → (vp_in x7 40 ∧ ∃ a_26 : Nat, sR st 10 x7.toNatClampNeg = some a_26 ∧ (okE st a_26 ∧ ((((sE st a_26).2.2 0) = x1 → (vp_in x7 40 ∧ ∃ a_30 : Nat, sR st 10 x7.toNatClampNeg = some a_30 ∧ (okE st a_30 ∧ (wpX0_isIn 25 (fun r_33 s_32 => ((r_33 = 0 → (wX0_partsAmong_62  post (wX0_partsAmong_6  post  n) x1 x2 x4 x7 x6 s_32)) ∧ (¬ r_33 = 0 → (wX0_partsAmong_63  post (wX0_partsAmong_6  post  n) x1 x2 x4 x7 1 x6 s_32)))) st ((sE st a_30).2.2 1))))) ∧ (¬ ((sE st a_26).2.2 0) = x1 → (wX0_partsAmong_62  post (wX0_partsAmong_6  post  n) x1 x2 x4 x7 x6 st))))))))))
def wpX0_partsAmong  (post : CS → Prop) (s0 : CS) (p0 : Int32) (p1 : Int64) (p2 : Int64) : Prop := (∃ fu : Nat, wX0_partsAmong_6  post  fu p0 p1 p2 0 0 s0)
set_option maxHeartbeats 4000000 in
theorem kX0_partsAmong_146 (hX : ∀ U, E U → EL U) {post : CS → Prop} {k75 : Int32 → Int64 → Int64 → Int32 → Int32 → CS → Prop} (F : Fx p s m args meth c cX0_partsAmong 8 RX0 none D d E A) (hk75 : ∀ (x1 : Int32) (x2 : Int64) (x4 : Int64) (x6 : Int32) (x7 : Int32) (st : CS) (H : Heap) (locs : List Loc) (ls : Array Slot), k75 x1 x2 x4 x6 x7 st → Cx D (wX o ad d) A s st H locs → lv_has ls 8 [(0, .ref o), (1, .int x1), (2, .long x2), (4, .long x4), (6, .int x6), (7, .int x7)] → W p l e (headSpec (ws_ yX0_partsAmong cX0_partsAmong 8 none) rmX0_partsAmong).room s m args below meth c H locs 0 0 (QV below D d E (wX o ad d) A args s 0 0 post) (F0 m 75 ls [])) : ∀ (x1 : Int32) (x2 : Int64) (x4 : Int64) (x6 : Int32) (x7 : Int32) (st : CS) (H : Heap) (locs : List Loc) (ls : Array Slot), wX0_partsAmong_146  post k75 x1 x2 x4 x6 x7 st → Cx D (wX o ad d) A s st H locs → lv_has ls 8 [(0, .ref o), (1, .int x1), (2, .long x2), (4, .long x4), (6, .int x6), (7, .int x7)] → W p l e (headSpec (ws_ yX0_partsAmong cX0_partsAmong 8 none) rmX0_partsAmong).room s m args below meth c H locs 0 0 (QV below D d E (wX o ad d) A args s 0 0 post) (F0 m 146 ls []) := by
  obtain ⟨hx, hb, hr, hml, hown, hts, hlk, hA, hK, hE⟩ := id F
  intro x1 x2 x4 x6 x7 st H locs ls hw C hl
  unfold wX0_partsAmong_146 at hw
  obtain ⟨x7_5, ex7_5⟩ : ∃ y : Int32, y = x7 + 1 := ⟨_, rfl⟩
  have hw := hw x7_5 ex7_5
  refine lv_iinc (v := x7_5) (lv' := [(7, .int x7_5), (0, .ref o), (1, .int x1), (2, .long x2), (4, .long x4), (6, .int x6)]) hx hb dX0_partsAmong_146 hl (k := 5) rfl (by rw [ex7_5]; rfl) (by decide) rfl (fun ls hl => ?_)
  refine lv_goto (tgt := 75) hx hb dX0_partsAmong_149 (by decide) ?_
  exact hk75 x1 x2 x4 x6 x7_5 st _ _ _ hw C (lv_sub hl [1, 2, 3, 4, 5, 0] rfl)
set_option maxHeartbeats 4000000 in
theorem kX0_partsAmong_75 (hX : ∀ U, E U → EL U) {post : CS → Prop}  (F : Fx p s m args meth c cX0_partsAmong 8 RX0 none D d E A) : ∀ (fu : Nat) (x1 : Int32) (x2 : Int64) (x4 : Int64) (x6 : Int32) (x7 : Int32) (st : CS) (H : Heap) (locs : List Loc) (ls : Array Slot), wX0_partsAmong_75  post  fu x1 x2 x4 x6 x7 st → Cx D (wX o ad d) A s st H locs → lv_has ls 8 [(0, .ref o), (1, .int x1), (2, .long x2), (4, .long x4), (6, .int x6), (7, .int x7)] → W p l e (headSpec (ws_ yX0_partsAmong cX0_partsAmong 8 none) rmX0_partsAmong).room s m args below meth c H locs 0 0 (QV below D d E (wX o ad d) A args s 0 0 post) (F0 m 75 ls []) := by
  obtain ⟨hx, hb, hr, hml, hown, hts, hlk, hA, hK, hE⟩ := id F
  intro fu
  induction fu with
  | zero =>
    intro x1 x2 x4 x6 x7 st H locs ls hw
    exact hw.elim
  | succ n ih =>
    have hk75 := ih
    intro x1 x2 x4 x6 x7 st H locs ls hw C hl
    unfold wX0_partsAmong_75 at hw
    refine lv_iload hx hb dX0_partsAmong_75 (lv_at hl 5 rfl) ?_
    refine lv_aload_n hx hb dX0_partsAmong_77 rfl (lv_at hl 0 rfl) ?_
    refine x0_g11 F C dX0_partsAmong_78 ?_
    refine lv_icmp_ge (tgt := 152) hx hb dX0_partsAmong_81 (by decide) (fun c_2 => ?_) (fun c_2 => ?_)
    · have hw := hw.1 c_2
      exact x_vret F C hw dX0_partsAmong_152
    · have hw := hw.2 c_2
      refine lv_aload_n hx hb dX0_partsAmong_84 rfl (lv_at hl 0 rfl) ?_
      refine x0_g20 F C dX0_partsAmong_85 ?_
      refine lv_iload hx hb dX0_partsAmong_88 (lv_at hl 5 rfl) ?_
      obtain ⟨h_3, hw⟩ := hw
      refine x0_ld20 F C h_3 dX0_partsAmong_90 ?_
      refine lv_if_eq (tgt := 146) hx hb dX0_partsAmong_91 (by decide) (fun c_4 => ?_) (fun c_4 => ?_)
      · have hw := hw.1 c_4
        exact kX0_partsAmong_146 hX F hk75 x1 x2 x4 x6 x7 st _ _ _ hw C hl
      · have hw := hw.2 c_4
        refine lv_aload_n hx hb dX0_partsAmong_94 rfl (lv_at hl 0 rfl) ?_
        refine x0_g10 F C dX0_partsAmong_95 ?_
        refine lv_iload hx hb dX0_partsAmong_98 (lv_at hl 5 rfl) ?_
        obtain ⟨h_6, a_7, ha_7, hw⟩ := hw
        refine x0_ldL F C h_6 ha_7 dX0_partsAmong_100 ?_
        obtain ⟨h_8, hw⟩ := hw
        refine x0_gL0 F C h_8 dX0_partsAmong_101 ?_
        refine lv_iload_n hx hb dX0_partsAmong_104 rfl (lv_at hl 1 rfl) ?_
        refine lv_icmp_ne (tgt := 146) hx hb dX0_partsAmong_105 (by decide) (fun c_9 => ?_) (fun c_9 => ?_)
        · have hw := hw.2 c_9
          exact kX0_partsAmong_146 hX F hk75 x1 x2 x4 x6 x7 st _ _ _ hw C hl
        · have hw := hw.1 c_9
          refine lv_aload_n hx hb dX0_partsAmong_108 rfl (lv_at hl 0 rfl) ?_
          refine lv_aload_n hx hb dX0_partsAmong_109 rfl (lv_at hl 0 rfl) ?_
          refine x0_g10 F C dX0_partsAmong_110 ?_
          refine lv_iload hx hb dX0_partsAmong_113 (lv_at hl 5 rfl) ?_
          obtain ⟨h_10, a_11, ha_11, hw⟩ := hw
          refine x0_ldL F C h_10 ha_11 dX0_partsAmong_115 ?_
          obtain ⟨h_12, hw⟩ := hw
          refine x0_gL1 F C h_12 dX0_partsAmong_116 ?_
          refine x_callI (rest := []) (ci := 0) (q := (RX0, TX0, 41)) F C (ctX0_isIn 25 hE hX hw) (cwV 1 hts (lw_V q567 q569 qs17 q70 q570) rfl rfl rfl (by decide +kernel) ⟨Nat.le_of_ble_eq_true rfl, Nat.le_of_ble_eq_true rfl⟩) rfl rfl rfl hl.1 rfl (Nat.le_of_ble_eq_true rfl) dX0_partsAmong_119 ⟨Nat.zero_le _, Nat.zero_le _⟩ (fun r_14 s_13 H locs hw C => ?_)
          refine lv_if_eq (tgt := 146) hx hb dX0_partsAmong_122 (by decide) (fun c_15 => ?_) (fun c_15 => ?_)
          · have hw := hw.1 c_15
            exact kX0_partsAmong_146 hX F hk75 x1 x2 x4 x6 x7 s_13 _ _ _ hw C hl
          · have hw := hw.2 c_15
            refine lv_aload_n hx hb dX0_partsAmong_125 rfl (lv_at hl 0 rfl) ?_
            refine lv_aload_n hx hb dX0_partsAmong_126 rfl (lv_at hl 0 rfl) ?_
            refine x0_g10 F C dX0_partsAmong_127 ?_
            refine lv_iload hx hb dX0_partsAmong_130 (lv_at hl 5 rfl) ?_
            obtain ⟨h_16, a_17, ha_17, hw⟩ := hw
            refine x0_ldL F C h_16 ha_17 dX0_partsAmong_132 ?_
            obtain ⟨h_18, hw⟩ := hw
            refine x0_gL1 F C h_18 dX0_partsAmong_133 ?_
            refine lv_lload_n hx hb dX0_partsAmong_136 rfl (lv_at hl 2 rfl) ?_
            refine lv_lload hx hb dX0_partsAmong_137 (lv_at hl 3 rfl) ?_
            refine lv_iload hx hb dX0_partsAmong_139 (lv_at hl 4 rfl) ?_
            refine lv_i2l (v := x6.toInt64) hx hb dX0_partsAmong_141 rfl ?_
            refine lv_lmul hx hb dX0_partsAmong_142 ?_
            refine x_callV (rest := []) (ci := 0) (q := (RX0, TX0, 41)) F C (ctX0_comesTo hE hX hw) (cwV 3 hts (lw_V q609 q611 qs26 q70 q612) rfl rfl rfl (by decide +kernel) ⟨Nat.le_of_ble_eq_true rfl, Nat.le_of_ble_eq_true rfl⟩) rfl rfl rfl hl.1 rfl (Nat.le_of_ble_eq_true rfl) dX0_partsAmong_143 ⟨Nat.zero_le _, Nat.zero_le _⟩ (fun s_19 H locs hw C => ?_)
            exact kX0_partsAmong_146 hX F hk75 x1 x2 x4 x6 x7 s_19 _ _ _ hw C hl
set_option maxHeartbeats 4000000 in
theorem kX0_partsAmong_63 (hX : ∀ U, E U → EL U) {post : CS → Prop} {k6 : Int32 → Int64 → Int64 → Int32 → Int32 → CS → Prop} (F : Fx p s m args meth c cX0_partsAmong 8 RX0 none D d E A) (hk6 : ∀ (x1 : Int32) (x2 : Int64) (x4 : Int64) (x6 : Int32) (x7 : Int32) (st : CS) (H : Heap) (locs : List Loc) (ls : Array Slot), k6 x1 x2 x4 x6 x7 st → Cx D (wX o ad d) A s st H locs → lv_has ls 8 [(0, .ref o), (1, .int x1), (2, .long x2), (4, .long x4), (6, .int x6), (7, .int x7)] → W p l e (headSpec (ws_ yX0_partsAmong cX0_partsAmong 8 none) rmX0_partsAmong).room s m args below meth c H locs 0 0 (QV below D d E (wX o ad d) A args s 0 0 post) (F0 m 6 ls [])) : ∀ (x1 : Int32) (x2 : Int64) (x4 : Int64) (x7 : Int32) (y0 : Int32) (y1 : Int32) (st : CS) (H : Heap) (locs : List Loc) (ls : Array Slot), wX0_partsAmong_63  post k6 x1 x2 x4 x7 y0 y1 st → Cx D (wX o ad d) A s st H locs → lv_has ls 8 [(0, .ref o), (1, .int x1), (2, .long x2), (4, .long x4), (7, .int x7)] → W p l e (headSpec (ws_ yX0_partsAmong cX0_partsAmong 8 none) rmX0_partsAmong).room s m args below meth c H locs 0 0 (QV below D d E (wX o ad d) A args s 0 0 post) (F0 m 63 ls [.int y0, .int y1]) := by
  obtain ⟨hx, hb, hr, hml, hown, hts, hlk, hA, hK, hE⟩ := id F
  intro x1 x2 x4 x7 y0 y1 st H locs ls hw C hl
  unfold wX0_partsAmong_63 at hw
  refine lv_iadd hx hb dX0_partsAmong_63 ?_
  refine lv_topi (fun x6_23 ex6_23 => ?_)
  have hw := hw x6_23 ex6_23
  refine lv_istore (lv' := [(6, .int x6_23), (0, .ref o), (1, .int x1), (2, .long x2), (4, .long x4), (7, .int x7)]) hx hb dX0_partsAmong_64 hl (by decide) rfl (fun ls hl => ?_)
  obtain ⟨x7_24, ex7_24⟩ : ∃ y : Int32, y = x7 + 1 := ⟨_, rfl⟩
  have hw := hw x7_24 ex7_24
  refine lv_iinc (v := x7_24) (lv' := [(7, .int x7_24), (6, .int x6_23), (0, .ref o), (1, .int x1), (2, .long x2), (4, .long x4)]) hx hb dX0_partsAmong_66 hl (k := 5) rfl (by rw [ex7_24]; rfl) (by decide) rfl (fun ls hl => ?_)
  refine lv_goto (tgt := 6) hx hb dX0_partsAmong_69 (by decide) ?_
  exact hk6 x1 x2 x4 x6_23 x7_24 st _ _ _ hw C (lv_sub hl [2, 3, 4, 5, 1, 0] rfl)
set_option maxHeartbeats 4000000 in
theorem kX0_partsAmong_62 (hX : ∀ U, E U → EL U) {post : CS → Prop} {k6 : Int32 → Int64 → Int64 → Int32 → Int32 → CS → Prop} (F : Fx p s m args meth c cX0_partsAmong 8 RX0 none D d E A) (hk6 : ∀ (x1 : Int32) (x2 : Int64) (x4 : Int64) (x6 : Int32) (x7 : Int32) (st : CS) (H : Heap) (locs : List Loc) (ls : Array Slot), k6 x1 x2 x4 x6 x7 st → Cx D (wX o ad d) A s st H locs → lv_has ls 8 [(0, .ref o), (1, .int x1), (2, .long x2), (4, .long x4), (6, .int x6), (7, .int x7)] → W p l e (headSpec (ws_ yX0_partsAmong cX0_partsAmong 8 none) rmX0_partsAmong).room s m args below meth c H locs 0 0 (QV below D d E (wX o ad d) A args s 0 0 post) (F0 m 6 ls [])) : ∀ (x1 : Int32) (x2 : Int64) (x4 : Int64) (x7 : Int32) (y0 : Int32) (st : CS) (H : Heap) (locs : List Loc) (ls : Array Slot), wX0_partsAmong_62  post k6 x1 x2 x4 x7 y0 st → Cx D (wX o ad d) A s st H locs → lv_has ls 8 [(0, .ref o), (1, .int x1), (2, .long x2), (4, .long x4), (7, .int x7)] → W p l e (headSpec (ws_ yX0_partsAmong cX0_partsAmong 8 none) rmX0_partsAmong).room s m args below meth c H locs 0 0 (QV below D d E (wX o ad d) A args s 0 0 post) (F0 m 62 ls [.int y0]) := by
  obtain ⟨hx, hb, hr, hml, hown, hts, hlk, hA, hK, hE⟩ := id F
  intro x1 x2 x4 x7 y0 st H locs ls hw C hl
  unfold wX0_partsAmong_62 at hw
  refine lv_iconst (v := 0) hx hb dX0_partsAmong_62 (by decide) ?_
  exact kX0_partsAmong_63 hX F hk6 x1 x2 x4 x7 0 y0 st _ _ _ hw C hl
set_option maxHeartbeats 4000000 in
theorem kX0_partsAmong_6 (hX : ∀ U, E U → EL U) {post : CS → Prop}  (F : Fx p s m args meth c cX0_partsAmong 8 RX0 none D d E A) : ∀ (fu : Nat) (x1 : Int32) (x2 : Int64) (x4 : Int64) (x6 : Int32) (x7 : Int32) (st : CS) (H : Heap) (locs : List Loc) (ls : Array Slot), wX0_partsAmong_6  post  fu x1 x2 x4 x6 x7 st → Cx D (wX o ad d) A s st H locs → lv_has ls 8 [(0, .ref o), (1, .int x1), (2, .long x2), (4, .long x4), (6, .int x6), (7, .int x7)] → W p l e (headSpec (ws_ yX0_partsAmong cX0_partsAmong 8 none) rmX0_partsAmong).room s m args below meth c H locs 0 0 (QV below D d E (wX o ad d) A args s 0 0 post) (F0 m 6 ls []) := by
  obtain ⟨hx, hb, hr, hml, hown, hts, hlk, hA, hK, hE⟩ := id F
  intro fu
  induction fu with
  | zero =>
    intro x1 x2 x4 x6 x7 st H locs ls hw
    exact hw.elim
  | succ n ih =>
    have hk6 := ih
    intro x1 x2 x4 x6 x7 st H locs ls hw C hl
    unfold wX0_partsAmong_6 at hw
    refine lv_iload hx hb dX0_partsAmong_6 (lv_at hl 5 rfl) ?_
    refine lv_aload_n hx hb dX0_partsAmong_8 rfl (lv_at hl 0 rfl) ?_
    refine x0_g11 F C dX0_partsAmong_9 ?_
    refine lv_icmp_ge (tgt := 72) hx hb dX0_partsAmong_12 (by decide) (fun c_1 => ?_) (fun c_1 => ?_)
    · have hw := hw.1 c_1
      refine lv_iconst (v := 0) hx hb dX0_partsAmong_72 (by decide) ?_
      refine lv_istore (lv' := [(7, .int 0), (0, .ref o), (1, .int x1), (2, .long x2), (4, .long x4), (6, .int x6)]) hx hb dX0_partsAmong_73 hl (by decide) rfl (fun ls hl => ?_)
      obtain ⟨fu, hw⟩ := hw
      exact kX0_partsAmong_75 hX F  fu x1 x2 x4 x6 0 st _ _ _ hw C (lv_sub hl [1, 2, 3, 4, 5, 0] rfl)
    · have hw := hw.2 c_1
      refine lv_iload hx hb dX0_partsAmong_15 (lv_at hl 4 rfl) ?_
      refine lv_aload_n hx hb dX0_partsAmong_17 rfl (lv_at hl 0 rfl) ?_
      refine x0_g20 F C dX0_partsAmong_18 ?_
      refine lv_iload hx hb dX0_partsAmong_21 (lv_at hl 5 rfl) ?_
      obtain ⟨h_21, hw⟩ := hw
      refine x0_ld20 F C h_21 dX0_partsAmong_23 ?_
      refine lv_if_eq (tgt := 62) hx hb dX0_partsAmong_24 (by decide) (fun c_22 => ?_) (fun c_22 => ?_)
      · have hw := hw.1 c_22
        exact kX0_partsAmong_62 hX F hk6 x1 x2 x4 x7 x6 st _ _ _ hw C (lv_sub hl [0, 1, 2, 3, 5] rfl)
      · have hw := hw.2 c_22
        refine lv_aload_n hx hb dX0_partsAmong_27 rfl (lv_at hl 0 rfl) ?_
        refine x0_g10 F C dX0_partsAmong_28 ?_
        refine lv_iload hx hb dX0_partsAmong_31 (lv_at hl 5 rfl) ?_
        obtain ⟨h_25, a_26, ha_26, hw⟩ := hw
        refine x0_ldL F C h_25 ha_26 dX0_partsAmong_33 ?_
        obtain ⟨h_27, hw⟩ := hw
        refine x0_gL0 F C h_27 dX0_partsAmong_34 ?_
        refine lv_iload_n hx hb dX0_partsAmong_37 rfl (lv_at hl 1 rfl) ?_
        refine lv_icmp_ne (tgt := 62) hx hb dX0_partsAmong_38 (by decide) (fun c_28 => ?_) (fun c_28 => ?_)
        · have hw := hw.2 c_28
          exact kX0_partsAmong_62 hX F hk6 x1 x2 x4 x7 x6 st _ _ _ hw C (lv_sub hl [0, 1, 2, 3, 5] rfl)
        · have hw := hw.1 c_28
          refine lv_aload_n hx hb dX0_partsAmong_41 rfl (lv_at hl 0 rfl) ?_
          refine lv_aload_n hx hb dX0_partsAmong_42 rfl (lv_at hl 0 rfl) ?_
          refine x0_g10 F C dX0_partsAmong_43 ?_
          refine lv_iload hx hb dX0_partsAmong_46 (lv_at hl 5 rfl) ?_
          obtain ⟨h_29, a_30, ha_30, hw⟩ := hw
          refine x0_ldL F C h_29 ha_30 dX0_partsAmong_48 ?_
          obtain ⟨h_31, hw⟩ := hw
          refine x0_gL1 F C h_31 dX0_partsAmong_49 ?_
          refine x_callI (rest := [.int x6]) (ci := 0) (q := (RX0, TX0, 41)) F C (ctX0_isIn 25 hE hX hw) (cwV 1 hts (lw_V q567 q569 qs17 q70 q570) rfl rfl rfl (by decide +kernel) ⟨Nat.le_of_ble_eq_true rfl, Nat.le_of_ble_eq_true rfl⟩) rfl rfl rfl hl.1 rfl (Nat.le_of_ble_eq_true rfl) dX0_partsAmong_52 ⟨Nat.zero_le _, Nat.zero_le _⟩ (fun r_33 s_32 H locs hw C => ?_)
          refine lv_if_eq (tgt := 62) hx hb dX0_partsAmong_55 (by decide) (fun c_34 => ?_) (fun c_34 => ?_)
          · have hw := hw.1 c_34
            exact kX0_partsAmong_62 hX F hk6 x1 x2 x4 x7 x6 s_32 _ _ _ hw C (lv_sub hl [0, 1, 2, 3, 5] rfl)
          · have hw := hw.2 c_34
            refine lv_iconst (v := 1) hx hb dX0_partsAmong_58 (by decide) ?_
            refine lv_goto (tgt := 63) hx hb dX0_partsAmong_59 (by decide) ?_
            exact kX0_partsAmong_63 hX F hk6 x1 x2 x4 x7 1 x6 s_32 _ _ _ hw C (lv_sub hl [0, 1, 2, 3, 5] rfl)
theorem ctX0_partsAmong (hE : Em E) (hX : ∀ U, E U → EL U) {post : CS → Prop} {s0 : CS} {p0 : Int32} {p1 : Int64} {p2 : Int64} (hw : wpX0_partsAmong  post s0 p0 p1 p2) : CtV l yX0_partsAmong (ws_ yX0_partsAmong cX0_partsAmong 8 none) rmX0_partsAmong D d E (wX o ad d) 0 0 [.ref o, .int p0, .long p1, .long p2] s0 post := by
  refine CtV.of hE (by decide) rfl (Nat.le_of_ble_eq_true rfl) ?_
  intro p e s m below meth c A ls F C hl
  have hl : lv_has ls 8 [(0, .ref o), (1, .int p0), (2, .long p1), (4, .long p2)] := hl
  unfold wpX0_partsAmong at hw
  obtain ⟨hx, hb, hr, hml, hown, hts, hlk, hA, hK, -⟩ := id F
  refine lv_iconst (v := 0) hx hb dX0_partsAmong_0 (by decide) ?_
  refine lv_istore (lv' := [(6, .int 0), (0, .ref o), (1, .int p0), (2, .long p1), (4, .long p2)]) hx hb dX0_partsAmong_1 hl (by decide) rfl (fun ls hl => ?_)
  refine lv_iconst (v := 0) hx hb dX0_partsAmong_3 (by decide) ?_
  refine lv_istore (lv' := [(7, .int 0), (6, .int 0), (0, .ref o), (1, .int p0), (2, .long p1), (4, .long p2)]) hx hb dX0_partsAmong_4 hl (by decide) rfl (fun ls hl => ?_)
  obtain ⟨fu, hw⟩ := hw
  exact kX0_partsAmong_6 hX F  fu p0 p1 p2 0 0 s0 _ _ _ hw C (lv_sub hl [2, 3, 4, 5, 1, 0] rfl)

abbrev rmX0_gets : Room := { frames := 3, cells := 0, slots := 0, locals := 80 }
def wpX0_gets  (post : CS → Prop) (s0 : CS) (p0 : Int32) (p1 : Int64) (p2 : Int64) : Prop := (vp_in p0 25 ∧ (vp_in p0 25 ∧ (wpX0_add (fun s_3 => (vp_in p0 25 ∧ ∀ s_6 : CS, s_6 = uM s_3 22 p0.toNatClampNeg (sL s_3 4) → (vp_in p0 25 ∧ ∀ s_8 : CS, s_8 = uM s_6 23 p0.toNatClampNeg (sL s_6 5) → (post s_8)))) s0 (sM s0 22 p0.toNatClampNeg) (sM s0 23 p0.toNatClampNeg) p1 p2)))
theorem ctX0_gets (hE : Em E) (hX : ∀ U, E U → EL U) {post : CS → Prop} {s0 : CS} {p0 : Int32} {p1 : Int64} {p2 : Int64} (hw : wpX0_gets  post s0 p0 p1 p2) : CtV l yX0_gets (ws_ yX0_gets cX0_gets 6 none) rmX0_gets D d E (wX o ad d) 0 0 [.ref o, .int p0, .long p1, .long p2] s0 post := by
  refine CtV.of hE (by decide) rfl (Nat.le_of_ble_eq_true rfl) ?_
  intro p e s m below meth c A ls F C hl
  have hl : lv_has ls 6 [(0, .ref o), (1, .int p0), (2, .long p1), (4, .long p2)] := hl
  unfold wpX0_gets at hw
  obtain ⟨hx, hb, hr, hml, hown, hts, hlk, hA, hK, -⟩ := id F
  refine lv_aload_n hx hb dX0_gets_0 rfl (lv_at hl 0 rfl) ?_
  refine lv_aload_n hx hb dX0_gets_1 rfl (lv_at hl 0 rfl) ?_
  refine x0_g22 F C dX0_gets_2 ?_
  refine lv_iload_n hx hb dX0_gets_5 rfl (lv_at hl 1 rfl) ?_
  obtain ⟨h_1, hw⟩ := hw
  refine x0_ld22 F C h_1 dX0_gets_6 ?_
  refine lv_aload_n hx hb dX0_gets_7 rfl (lv_at hl 0 rfl) ?_
  refine x0_g23 F C dX0_gets_8 ?_
  refine lv_iload_n hx hb dX0_gets_11 rfl (lv_at hl 1 rfl) ?_
  obtain ⟨h_2, hw⟩ := hw
  refine x0_ld23 F C h_2 dX0_gets_12 ?_
  refine lv_lload_n hx hb dX0_gets_13 rfl (lv_at hl 2 rfl) ?_
  refine lv_lload hx hb dX0_gets_14 (lv_at hl 3 rfl) ?_
  refine x_callV (rest := []) (ci := 0) (q := (RX0, TX0, 41)) F C (ctX0_add hE hX hw) (cwV 4 hts (lw_V q591 q593 qs23 q70 q594) rfl rfl rfl (by decide +kernel) ⟨Nat.le_of_ble_eq_true rfl, Nat.le_of_ble_eq_true rfl⟩) rfl rfl rfl hl.1 rfl (Nat.le_of_ble_eq_true rfl) dX0_gets_16 ⟨Nat.zero_le _, Nat.zero_le _⟩ (fun s_3 H locs hw C => ?_)
  refine lv_aload_n hx hb dX0_gets_19 rfl (lv_at hl 0 rfl) ?_
  refine x0_g22 F C dX0_gets_20 ?_
  refine lv_iload_n hx hb dX0_gets_23 rfl (lv_at hl 1 rfl) ?_
  refine lv_aload_n hx hb dX0_gets_24 rfl (lv_at hl 0 rfl) ?_
  refine x0_g4 F C dX0_gets_25 ?_
  obtain ⟨h_5, hw⟩ := hw
  refine x0_st22 F C h_5 dX0_gets_28 (fun H locs s_6 es_6 C => ?_)
  have hw := hw s_6 es_6
  refine lv_aload_n hx hb dX0_gets_29 rfl (lv_at hl 0 rfl) ?_
  refine x0_g23 F C dX0_gets_30 ?_
  refine lv_iload_n hx hb dX0_gets_33 rfl (lv_at hl 1 rfl) ?_
  refine lv_aload_n hx hb dX0_gets_34 rfl (lv_at hl 0 rfl) ?_
  refine x0_g5 F C dX0_gets_35 ?_
  obtain ⟨h_7, hw⟩ := hw
  refine x0_st23 F C h_7 dX0_gets_38 (fun H locs s_8 es_8 C => ?_)
  have hw := hw s_8 es_8
  exact x_vret F C hw dX0_gets_39

abbrev rmX0_handOn : Room := { frames := 52, cells := 0, slots := 0, locals := 1148 }
def wX0_handOn_85  (post : CS → Prop) (k2 : Int32 → CS → Prop) (x1 : Int32) (st : CS) : Prop := (∀ x1_8 : Int32, x1_8 = x1 + 1 → (k2 x1_8 st))
def wX0_handOn_57  (post : CS → Prop) (k2 : Int32 → CS → Prop) (x1 : Int32) (x2 : Int32) (st : CS) : Prop := (vp_in x2 24 ∧ (((sM st 25 x2.toNatClampNeg) ≤ 0 → (wX0_handOn_85  post k2 x1 st)) ∧ (¬ (sM st 25 x2.toNatClampNeg) ≤ 0 → (vp_in x2 24 ∧ (vp_in x2 24 ∧ (wpX0_partsAmong (fun s_11 => (wX0_handOn_85  post k2 x1 s_11)) st x2 (sM st 25 x2.toNatClampNeg) (sM st 26 x2.toNatClampNeg)))))))
def wX0_handOn_2  (post : CS → Prop)  : Nat → Int32 → CS → Prop
  | 0 => fun _ _ => False
  | n + 1 => fun x1 st => (((sI st 6) ≤ x1 → (post st)) ∧ (¬ (sI st 6) ≤ x1 → (vp_in x1 24 ∧ (∀ x2_3 : Int32, x2_3 = (sA st 27 x1.toNatClampNeg) → (vp_in x2_3 24 ∧ (((sM st 25 x2_3.toNatClampNeg) ≤ 0 → (wX0_handOn_57  post (wX0_handOn_2  post  n) x1 x2_3 st)) ∧ (¬ (sM st 25 x2_3.toNatClampNeg) ≤ 0 → (vp_in x2_3 24 ∧ (((sA st 19 x2_3.toNatClampNeg) = 0 → (wX0_handOn_57  post (wX0_handOn_2  post  n) x1 x2_3 st)) ∧ (¬ (sA st 19 x2_3.toNatClampNeg) = 0 → (vp_in x2_3 24 ∧ (vp_in x2_3 24 ∧ (wpX0_gets (fun s_17 => (wX0_handOn_85  post (wX0_handOn_2  post  n) x1 s_17)) st x2_3 (sM st 25 x2_3.toNatClampNeg) (sM st 26 x2_3.toNatClampNeg))))))))))))))
def wpX0_handOn  (post : CS → Prop) (s0 : CS)  : Prop := (∃ fu : Nat, wX0_handOn_2  post  fu 0 s0)
set_option maxHeartbeats 4000000 in
theorem kX0_handOn_85 (hX : ∀ U, E U → EL U) {post : CS → Prop} {k2 : Int32 → CS → Prop} (F : Fx p s m args meth c cX0_handOn 3 RX0 none D d E A) (hk2 : ∀ (x1 : Int32) (st : CS) (H : Heap) (locs : List Loc) (ls : Array Slot), k2 x1 st → Cx D (wX o ad d) A s st H locs → lv_has ls 3 [(0, .ref o), (1, .int x1)] → W p l e (headSpec (ws_ yX0_handOn cX0_handOn 3 none) rmX0_handOn).room s m args below meth c H locs 0 0 (QV below D d E (wX o ad d) A args s 0 0 post) (F0 m 2 ls [])) : ∀ (x1 : Int32) (st : CS) (H : Heap) (locs : List Loc) (ls : Array Slot), wX0_handOn_85  post k2 x1 st → Cx D (wX o ad d) A s st H locs → lv_has ls 3 [(0, .ref o), (1, .int x1)] → W p l e (headSpec (ws_ yX0_handOn cX0_handOn 3 none) rmX0_handOn).room s m args below meth c H locs 0 0 (QV below D d E (wX o ad d) A args s 0 0 post) (F0 m 85 ls []) := by
  obtain ⟨hx, hb, hr, hml, hown, hts, hlk, hA, hK, hE⟩ := id F
  intro x1 st H locs ls hw C hl
  unfold wX0_handOn_85 at hw
  obtain ⟨x1_8, ex1_8⟩ : ∃ y : Int32, y = x1 + 1 := ⟨_, rfl⟩
  have hw := hw x1_8 ex1_8
  refine lv_iinc (v := x1_8) (lv' := [(1, .int x1_8), (0, .ref o)]) hx hb dX0_handOn_85 hl (k := 1) rfl (by rw [ex1_8]; rfl) (by decide) rfl (fun ls hl => ?_)
  refine lv_goto (tgt := 2) hx hb dX0_handOn_88 (by decide) ?_
  exact hk2 x1_8 st _ _ _ hw C (lv_sub hl [1, 0] rfl)
set_option maxHeartbeats 4000000 in
theorem kX0_handOn_57 (hX : ∀ U, E U → EL U) {post : CS → Prop} {k2 : Int32 → CS → Prop} (F : Fx p s m args meth c cX0_handOn 3 RX0 none D d E A) (hk2 : ∀ (x1 : Int32) (st : CS) (H : Heap) (locs : List Loc) (ls : Array Slot), k2 x1 st → Cx D (wX o ad d) A s st H locs → lv_has ls 3 [(0, .ref o), (1, .int x1)] → W p l e (headSpec (ws_ yX0_handOn cX0_handOn 3 none) rmX0_handOn).room s m args below meth c H locs 0 0 (QV below D d E (wX o ad d) A args s 0 0 post) (F0 m 2 ls [])) : ∀ (x1 : Int32) (x2 : Int32) (st : CS) (H : Heap) (locs : List Loc) (ls : Array Slot), wX0_handOn_57  post k2 x1 x2 st → Cx D (wX o ad d) A s st H locs → lv_has ls 3 [(0, .ref o), (1, .int x1), (2, .int x2)] → W p l e (headSpec (ws_ yX0_handOn cX0_handOn 3 none) rmX0_handOn).room s m args below meth c H locs 0 0 (QV below D d E (wX o ad d) A args s 0 0 post) (F0 m 57 ls []) := by
  obtain ⟨hx, hb, hr, hml, hown, hts, hlk, hA, hK, hE⟩ := id F
  intro x1 x2 st H locs ls hw C hl
  unfold wX0_handOn_57 at hw
  refine lv_aload_n hx hb dX0_handOn_57 rfl (lv_at hl 0 rfl) ?_
  refine x0_g25 F C dX0_handOn_58 ?_
  refine lv_iload_n hx hb dX0_handOn_61 rfl (lv_at hl 2 rfl) ?_
  obtain ⟨h_6, hw⟩ := hw
  refine x0_ld25 F C h_6 dX0_handOn_62 ?_
  refine lv_lconst (v := 0) hx hb dX0_handOn_63 (by decide) ?_
  refine W.lcmp hx hb dX0_handOn_64 ?_
  refine lv_if_le (tgt := 85) hx hb dX0_handOn_65 (by decide) (fun c_7 => ?_) (fun c_7 => ?_)
  · have hw := hw.1 ((lg_cmp_le _ _).mp c_7)
    exact kX0_handOn_85 hX F hk2 x1 st _ _ _ hw C (lv_sub hl [0, 1] rfl)
  · have hw := hw.2 (fun h9 => c_7 ((lg_cmp_le _ _).mpr h9))
    refine lv_aload_n hx hb dX0_handOn_68 rfl (lv_at hl 0 rfl) ?_
    refine lv_iload_n hx hb dX0_handOn_69 rfl (lv_at hl 2 rfl) ?_
    refine lv_aload_n hx hb dX0_handOn_70 rfl (lv_at hl 0 rfl) ?_
    refine x0_g25 F C dX0_handOn_71 ?_
    refine lv_iload_n hx hb dX0_handOn_74 rfl (lv_at hl 2 rfl) ?_
    obtain ⟨h_9, hw⟩ := hw
    refine x0_ld25 F C h_9 dX0_handOn_75 ?_
    refine lv_aload_n hx hb dX0_handOn_76 rfl (lv_at hl 0 rfl) ?_
    refine x0_g26 F C dX0_handOn_77 ?_
    refine lv_iload_n hx hb dX0_handOn_80 rfl (lv_at hl 2 rfl) ?_
    obtain ⟨h_10, hw⟩ := hw
    refine x0_ld26 F C h_10 dX0_handOn_81 ?_
    refine x_callV (rest := []) (ci := 0) (q := (RX0, TX0, 41)) F C (ctX0_partsAmong hE hX hw) (cwV 3 hts (lw_V q605 q607 qs25 q70 q608) rfl rfl rfl (by decide +kernel) ⟨Nat.le_of_ble_eq_true rfl, Nat.le_of_ble_eq_true rfl⟩) rfl rfl rfl hl.1 rfl (Nat.le_of_ble_eq_true rfl) dX0_handOn_82 ⟨Nat.zero_le _, Nat.zero_le _⟩ (fun s_11 H locs hw C => ?_)
    exact kX0_handOn_85 hX F hk2 x1 s_11 _ _ _ hw C (lv_sub hl [0, 1] rfl)
set_option maxHeartbeats 4000000 in
theorem kX0_handOn_2 (hX : ∀ U, E U → EL U) {post : CS → Prop}  (F : Fx p s m args meth c cX0_handOn 3 RX0 none D d E A) : ∀ (fu : Nat) (x1 : Int32) (st : CS) (H : Heap) (locs : List Loc) (ls : Array Slot), wX0_handOn_2  post  fu x1 st → Cx D (wX o ad d) A s st H locs → lv_has ls 3 [(0, .ref o), (1, .int x1)] → W p l e (headSpec (ws_ yX0_handOn cX0_handOn 3 none) rmX0_handOn).room s m args below meth c H locs 0 0 (QV below D d E (wX o ad d) A args s 0 0 post) (F0 m 2 ls []) := by
  obtain ⟨hx, hb, hr, hml, hown, hts, hlk, hA, hK, hE⟩ := id F
  intro fu
  induction fu with
  | zero =>
    intro x1 st H locs ls hw
    exact hw.elim
  | succ n ih =>
    have hk2 := ih
    intro x1 st H locs ls hw C hl
    unfold wX0_handOn_2 at hw
    refine lv_iload_n hx hb dX0_handOn_2 rfl (lv_at hl 1 rfl) ?_
    refine lv_aload_n hx hb dX0_handOn_3 rfl (lv_at hl 0 rfl) ?_
    refine x0_g6 F C dX0_handOn_4 ?_
    refine lv_icmp_ge (tgt := 91) hx hb dX0_handOn_7 (by decide) (fun c_1 => ?_) (fun c_1 => ?_)
    · have hw := hw.1 c_1
      exact x_vret F C hw dX0_handOn_91
    · have hw := hw.2 c_1
      refine lv_aload_n hx hb dX0_handOn_10 rfl (lv_at hl 0 rfl) ?_
      refine x0_g27 F C dX0_handOn_11 ?_
      refine lv_iload_n hx hb dX0_handOn_14 rfl (lv_at hl 1 rfl) ?_
      obtain ⟨h_2, hw⟩ := hw
      refine x0_ld27 F C h_2 dX0_handOn_15 ?_
      refine lv_topi (fun x2_3 ex2_3 => ?_)
      have hw := hw x2_3 ex2_3
      refine lv_istore_n (lv' := [(2, .int x2_3), (0, .ref o), (1, .int x1)]) hx hb dX0_handOn_16 rfl hl (by decide) rfl (fun ls hl => ?_)
      refine lv_aload_n hx hb dX0_handOn_17 rfl (lv_at hl 1 rfl) ?_
      refine x0_g25 F C dX0_handOn_18 ?_
      refine lv_iload_n hx hb dX0_handOn_21 rfl (lv_at hl 0 rfl) ?_
      obtain ⟨h_4, hw⟩ := hw
      refine x0_ld25 F C h_4 dX0_handOn_22 ?_
      refine lv_lconst (v := 0) hx hb dX0_handOn_23 (by decide) ?_
      refine W.lcmp hx hb dX0_handOn_24 ?_
      refine lv_if_le (tgt := 57) hx hb dX0_handOn_25 (by decide) (fun c_5 => ?_) (fun c_5 => ?_)
      · have hw := hw.1 ((lg_cmp_le _ _).mp c_5)
        exact kX0_handOn_57 hX F hk2 x1 x2_3 st _ _ _ hw C (lv_sub hl [1, 2, 0] rfl)
      · have hw := hw.2 (fun h9 => c_5 ((lg_cmp_le _ _).mpr h9))
        refine lv_aload_n hx hb dX0_handOn_28 rfl (lv_at hl 1 rfl) ?_
        refine x0_g19 F C dX0_handOn_29 ?_
        refine lv_iload_n hx hb dX0_handOn_32 rfl (lv_at hl 0 rfl) ?_
        obtain ⟨h_13, hw⟩ := hw
        refine x0_ld19 F C h_13 dX0_handOn_33 ?_
        refine lv_if_eq (tgt := 57) hx hb dX0_handOn_34 (by decide) (fun c_14 => ?_) (fun c_14 => ?_)
        · have hw := hw.1 c_14
          exact kX0_handOn_57 hX F hk2 x1 x2_3 st _ _ _ hw C (lv_sub hl [1, 2, 0] rfl)
        · have hw := hw.2 c_14
          refine lv_aload_n hx hb dX0_handOn_37 rfl (lv_at hl 1 rfl) ?_
          refine lv_iload_n hx hb dX0_handOn_38 rfl (lv_at hl 0 rfl) ?_
          refine lv_aload_n hx hb dX0_handOn_39 rfl (lv_at hl 1 rfl) ?_
          refine x0_g25 F C dX0_handOn_40 ?_
          refine lv_iload_n hx hb dX0_handOn_43 rfl (lv_at hl 0 rfl) ?_
          obtain ⟨h_15, hw⟩ := hw
          refine x0_ld25 F C h_15 dX0_handOn_44 ?_
          refine lv_aload_n hx hb dX0_handOn_45 rfl (lv_at hl 1 rfl) ?_
          refine x0_g26 F C dX0_handOn_46 ?_
          refine lv_iload_n hx hb dX0_handOn_49 rfl (lv_at hl 0 rfl) ?_
          obtain ⟨h_16, hw⟩ := hw
          refine x0_ld26 F C h_16 dX0_handOn_50 ?_
          refine x_callV (rest := []) (ci := 0) (q := (RX0, TX0, 41)) F C (ctX0_gets hE hX hw) (cwV 3 hts (lw_V q587 q589 qs22 q70 q590) rfl rfl rfl (by decide +kernel) ⟨Nat.le_of_ble_eq_true rfl, Nat.le_of_ble_eq_true rfl⟩) rfl rfl rfl hl.1 rfl (Nat.le_of_ble_eq_true rfl) dX0_handOn_51 ⟨Nat.zero_le _, Nat.zero_le _⟩ (fun s_17 H locs hw C => ?_)
          refine lv_goto (tgt := 85) hx hb dX0_handOn_54 (by decide) ?_
          exact kX0_handOn_85 hX F hk2 x1 s_17 _ _ _ hw C (lv_sub hl [1, 2] rfl)
theorem ctX0_handOn (hE : Em E) (hX : ∀ U, E U → EL U) {post : CS → Prop} {s0 : CS}  (hw : wpX0_handOn  post s0 ) : CtV l yX0_handOn (ws_ yX0_handOn cX0_handOn 3 none) rmX0_handOn D d E (wX o ad d) 0 0 [.ref o] s0 post := by
  refine CtV.of hE (by decide) rfl (Nat.le_of_ble_eq_true rfl) ?_
  intro p e s m below meth c A ls F C hl
  have hl : lv_has ls 3 [(0, .ref o)] := hl
  unfold wpX0_handOn at hw
  obtain ⟨hx, hb, hr, hml, hown, hts, hlk, hA, hK, -⟩ := id F
  refine lv_iconst (v := 0) hx hb dX0_handOn_0 (by decide) ?_
  refine lv_istore_n (lv' := [(1, .int 0), (0, .ref o)]) hx hb dX0_handOn_1 rfl hl (by decide) rfl (fun ls hl => ?_)
  obtain ⟨fu, hw⟩ := hw
  exact kX0_handOn_2 hX F  fu 0 s0 _ _ _ hw C (lv_sub hl [1, 0] rfl)

abbrev rmX0_share_2 : Room := { frames := 53, cells := 0, slots := 0, locals := 1170 }
def wX0_share_2_207  (post : CS → Prop)   (st : CS) : Prop := (wpX0_handOn (fun s_22 => (post s_22)) st )
def wX0_share_2_201  (post : CS → Prop) (k151 : Int64 → Int64 → Int32 → Int32 → CS → Prop) (x7 : Int64) (x9 : Int64) (x11 : Int32) (x12 : Int32) (st : CS) : Prop := (∀ x12_29 : Int32, x12_29 = x12 + 1 → (k151 x7 x9 x11 x12_29 st))
def wX0_share_2_151  (post : CS → Prop)  : Nat → Int64 → Int64 → Int32 → Int32 → CS → Prop
  | 0 => fun _ _ _ _ _ => False
  | n + 1 => fun x7 x9 x11 x12 st => (((sI st 29) ≤ x12 → (wX0_share_2_207  post  st)) ∧ (¬ (sI st 29) ≤ x12 → (((sI st 24) ≤ 1 → (wX0_share_2_207  post  st)) ∧ (¬ (sI st 24) ≤ 1 → (vp_in x12 8 ∧ (wpX0_isIn 25 (fun r_27 s_26 => ((r_27 = 0 → (wX0_share_2_201  post (wX0_share_2_151  post  n) x7 x9 x11 x12 s_26)) ∧ (¬ r_27 = 0 → (vp_in x12 8 ∧ (wpX0_comesTo (fun s_31 => (wX0_share_2_201  post (wX0_share_2_151  post  n) x7 x9 x11 x12 s_31)) s_26 (sA s_26 28 x12.toNatClampNeg) x7 (x9 * x11.toInt64)))))) st (sA st 28 x12.toNatClampNeg)))))))
def wX0_share_2_142  (post : CS → Prop)  (x7 : Int64) (x9 : Int64) (st : CS) : Prop := (wpX0_headsIn (fun r_20 s_19 => (∃ fu : Nat, wX0_share_2_151  post  fu x7 x9 r_20 0 s_19)) st )
def wX0_share_2_119  (post : CS → Prop)  (x1 : Int32) (x7 : Int64) (y0 : Int64) (st : CS) : Prop := (wpX0_clearDues (fun s_16 => (((sI s_16 24) = 1 → (wpX0_partsAmong (fun s_33 => (wX0_share_2_142  post  x7 y0 s_33)) s_16 x1 x7 y0)) ∧ (¬ (sI s_16 24) = 1 → (wX0_share_2_142  post  x7 y0 s_16)))) st )
def wX0_share_2_105  (post : CS → Prop)  (x1 : Int32) (x2 : Int32) (x5 : Int64) (y0 : Int64) (st : CS) : Prop := ((x2 = (-9) → (wX0_share_2_119  post  x1 y0 1 st)) ∧ (¬ x2 = (-9) → (wX0_share_2_119  post  x1 y0 x5 st)))
def wX0_share_2_91  (post : CS → Prop)  (x1 : Int32) (x2 : Int32) (x3 : Int64) (x5 : Int64) (st : CS) : Prop := ((x2 = (-9) → (wX0_share_2_105  post  x1 x2 x5 1 st)) ∧ (¬ x2 = (-9) → (wX0_share_2_105  post  x1 x2 x5 (x5 - x3) st)))
def wX0_share_2_65  (post : CS → Prop)  (y0 : Int32) (st : CS) : Prop := (wpX0_gets (fun s_39 => (post s_39)) st y0 1 1)
def wpX0_share_2  (post : CS → Prop) (s0 : CS) (p0 : Int32) : Prop := (wpX0_layEstate (fun s_1 => (wpX0_findCircle (fun r_4 s_3 => (∀ s_5 : CS, s_5 = uI s_3 24 r_4 → (wpX0_coupled (fun r_7 s_6 => (vp_in ((sI s_6 17) + 2) 96 ∧ (∀ x3_9 : Int64, x3_9 = (sA s_6 15 ((sI s_6 17) + 2).toNatClampNeg).toInt64 → (vp_in ((sI s_6 17) + 3) 96 ∧ (∀ x5_11 : Int64, x5_11 = (sA s_6 15 ((sI s_6 17) + 3).toNatClampNeg).toInt64 → (((sI s_6 24) = 0 → ((r_7 = (-9) → (wX0_share_2_65  post  24 s_6)) ∧ (¬ r_7 = (-9) → (wX0_share_2_65  post  r_7 s_6)))) ∧ (¬ (sI s_6 24) = 0 → ((r_7 = (-9) → (wX0_share_2_91  post  p0 r_7 x3_9 x5_11 s_6)) ∧ (¬ r_7 = (-9) → ((x3_9 ≤ 0 → (wX0_share_2_91  post  p0 r_7 x3_9 x5_11 s_6)) ∧ (¬ x3_9 ≤ 0 → (wpX0_gets (fun s_36 => (wX0_share_2_91  post  p0 r_7 x3_9 x5_11 s_36)) s_6 r_7 x3_9 x5_11)))))))))))) s_5 ))) s_1 )) s0 p0)
set_option maxHeartbeats 4000000 in
theorem kX0_share_2_207 (hX : ∀ U, E U → EL U) {post : CS → Prop}  (F : Fx p s m args meth c cX0_share_2 13 RX0 none D d E A) : ∀  (st : CS) (H : Heap) (locs : List Loc) (ls : Array Slot), wX0_share_2_207  post  st → Cx D (wX o ad d) A s st H locs → lv_has ls 13 [(0, .ref o)] → W p l e (headSpec (ws_ yX0_share_2 cX0_share_2 13 none) rmX0_share_2).room s m args below meth c H locs 0 0 (QV below D d E (wX o ad d) A args s 0 0 post) (F0 m 207 ls []) := by
  obtain ⟨hx, hb, hr, hml, hown, hts, hlk, hA, hK, hE⟩ := id F
  intro st H locs ls hw C hl
  unfold wX0_share_2_207 at hw
  refine lv_aload_n hx hb dX0_share_2_207 rfl (lv_at hl 0 rfl) ?_
  refine x_callV (rest := []) (ci := 0) (q := (RX0, TX0, 41)) F C (ctX0_handOn hE hX hw) (cwV 0 hts (lw_V q613 q615 qs27 q70 q616) rfl rfl rfl (by decide +kernel) ⟨Nat.le_of_ble_eq_true rfl, Nat.le_of_ble_eq_true rfl⟩) rfl rfl rfl hl.1 rfl (Nat.le_of_ble_eq_true rfl) dX0_share_2_208 ⟨Nat.zero_le _, Nat.zero_le _⟩ (fun s_22 H locs hw C => ?_)
  exact x_vret F C hw dX0_share_2_211
set_option maxHeartbeats 4000000 in
theorem kX0_share_2_201 (hX : ∀ U, E U → EL U) {post : CS → Prop} {k151 : Int64 → Int64 → Int32 → Int32 → CS → Prop} (F : Fx p s m args meth c cX0_share_2 13 RX0 none D d E A) (hk151 : ∀ (x7 : Int64) (x9 : Int64) (x11 : Int32) (x12 : Int32) (st : CS) (H : Heap) (locs : List Loc) (ls : Array Slot), k151 x7 x9 x11 x12 st → Cx D (wX o ad d) A s st H locs → lv_has ls 13 [(0, .ref o), (7, .long x7), (9, .long x9), (11, .int x11), (12, .int x12)] → W p l e (headSpec (ws_ yX0_share_2 cX0_share_2 13 none) rmX0_share_2).room s m args below meth c H locs 0 0 (QV below D d E (wX o ad d) A args s 0 0 post) (F0 m 151 ls [])) : ∀ (x7 : Int64) (x9 : Int64) (x11 : Int32) (x12 : Int32) (st : CS) (H : Heap) (locs : List Loc) (ls : Array Slot), wX0_share_2_201  post k151 x7 x9 x11 x12 st → Cx D (wX o ad d) A s st H locs → lv_has ls 13 [(0, .ref o), (7, .long x7), (9, .long x9), (11, .int x11), (12, .int x12)] → W p l e (headSpec (ws_ yX0_share_2 cX0_share_2 13 none) rmX0_share_2).room s m args below meth c H locs 0 0 (QV below D d E (wX o ad d) A args s 0 0 post) (F0 m 201 ls []) := by
  obtain ⟨hx, hb, hr, hml, hown, hts, hlk, hA, hK, hE⟩ := id F
  intro x7 x9 x11 x12 st H locs ls hw C hl
  unfold wX0_share_2_201 at hw
  obtain ⟨x12_29, ex12_29⟩ : ∃ y : Int32, y = x12 + 1 := ⟨_, rfl⟩
  have hw := hw x12_29 ex12_29
  refine lv_iinc (v := x12_29) (lv' := [(12, .int x12_29), (0, .ref o), (7, .long x7), (9, .long x9), (11, .int x11)]) hx hb dX0_share_2_201 hl (k := 4) rfl (by rw [ex12_29]; rfl) (by decide) rfl (fun ls hl => ?_)
  refine lv_goto (tgt := 151) hx hb dX0_share_2_204 (by decide) ?_
  exact hk151 x7 x9 x11 x12_29 st _ _ _ hw C (lv_sub hl [1, 2, 3, 4, 0] rfl)
set_option maxHeartbeats 4000000 in
theorem kX0_share_2_151 (hX : ∀ U, E U → EL U) {post : CS → Prop}  (F : Fx p s m args meth c cX0_share_2 13 RX0 none D d E A) : ∀ (fu : Nat) (x7 : Int64) (x9 : Int64) (x11 : Int32) (x12 : Int32) (st : CS) (H : Heap) (locs : List Loc) (ls : Array Slot), wX0_share_2_151  post  fu x7 x9 x11 x12 st → Cx D (wX o ad d) A s st H locs → lv_has ls 13 [(0, .ref o), (7, .long x7), (9, .long x9), (11, .int x11), (12, .int x12)] → W p l e (headSpec (ws_ yX0_share_2 cX0_share_2 13 none) rmX0_share_2).room s m args below meth c H locs 0 0 (QV below D d E (wX o ad d) A args s 0 0 post) (F0 m 151 ls []) := by
  obtain ⟨hx, hb, hr, hml, hown, hts, hlk, hA, hK, hE⟩ := id F
  intro fu
  induction fu with
  | zero =>
    intro x7 x9 x11 x12 st H locs ls hw
    exact hw.elim
  | succ n ih =>
    have hk151 := ih
    intro x7 x9 x11 x12 st H locs ls hw C hl
    unfold wX0_share_2_151 at hw
    refine lv_iload hx hb dX0_share_2_151 (lv_at hl 4 rfl) ?_
    refine lv_aload_n hx hb dX0_share_2_153 rfl (lv_at hl 0 rfl) ?_
    refine x0_g29 F C dX0_share_2_154 ?_
    refine lv_icmp_ge (tgt := 207) hx hb dX0_share_2_157 (by decide) (fun c_21 => ?_) (fun c_21 => ?_)
    · have hw := hw.1 c_21
      exact kX0_share_2_207 hX F  st _ _ _ hw C (lv_sub hl [0] rfl)
    · have hw := hw.2 c_21
      refine lv_aload_n hx hb dX0_share_2_160 rfl (lv_at hl 0 rfl) ?_
      refine x0_g24 F C dX0_share_2_161 ?_
      refine lv_iconst (v := 1) hx hb dX0_share_2_164 (by decide) ?_
      refine lv_icmp_le (tgt := 207) hx hb dX0_share_2_165 (by decide) (fun c_24 => ?_) (fun c_24 => ?_)
      · have hw := hw.1 c_24
        exact kX0_share_2_207 hX F  st _ _ _ hw C (lv_sub hl [0] rfl)
      · have hw := hw.2 c_24
        refine lv_aload_n hx hb dX0_share_2_168 rfl (lv_at hl 0 rfl) ?_
        refine lv_aload_n hx hb dX0_share_2_169 rfl (lv_at hl 0 rfl) ?_
        refine x0_g28 F C dX0_share_2_170 ?_
        refine lv_iload hx hb dX0_share_2_173 (lv_at hl 4 rfl) ?_
        obtain ⟨h_25, hw⟩ := hw
        refine x0_ld28 F C h_25 dX0_share_2_175 ?_
        refine x_callI (rest := []) (ci := 0) (q := (RX0, TX0, 41)) F C (ctX0_isIn 25 hE hX hw) (cwV 1 hts (lw_V q567 q569 qs17 q70 q570) rfl rfl rfl (by decide +kernel) ⟨Nat.le_of_ble_eq_true rfl, Nat.le_of_ble_eq_true rfl⟩) rfl rfl rfl hl.1 rfl (Nat.le_of_ble_eq_true rfl) dX0_share_2_176 ⟨Nat.zero_le _, Nat.zero_le _⟩ (fun r_27 s_26 H locs hw C => ?_)
        refine lv_if_eq (tgt := 201) hx hb dX0_share_2_179 (by decide) (fun c_28 => ?_) (fun c_28 => ?_)
        · have hw := hw.1 c_28
          exact kX0_share_2_201 hX F hk151 x7 x9 x11 x12 s_26 _ _ _ hw C hl
        · have hw := hw.2 c_28
          refine lv_aload_n hx hb dX0_share_2_182 rfl (lv_at hl 0 rfl) ?_
          refine lv_aload_n hx hb dX0_share_2_183 rfl (lv_at hl 0 rfl) ?_
          refine x0_g28 F C dX0_share_2_184 ?_
          refine lv_iload hx hb dX0_share_2_187 (lv_at hl 4 rfl) ?_
          obtain ⟨h_30, hw⟩ := hw
          refine x0_ld28 F C h_30 dX0_share_2_189 ?_
          refine lv_lload hx hb dX0_share_2_190 (lv_at hl 1 rfl) ?_
          refine lv_lload hx hb dX0_share_2_192 (lv_at hl 2 rfl) ?_
          refine lv_iload hx hb dX0_share_2_194 (lv_at hl 3 rfl) ?_
          refine lv_i2l (v := x11.toInt64) hx hb dX0_share_2_196 rfl ?_
          refine lv_lmul hx hb dX0_share_2_197 ?_
          refine x_callV (rest := []) (ci := 0) (q := (RX0, TX0, 41)) F C (ctX0_comesTo hE hX hw) (cwV 3 hts (lw_V q609 q611 qs26 q70 q612) rfl rfl rfl (by decide +kernel) ⟨Nat.le_of_ble_eq_true rfl, Nat.le_of_ble_eq_true rfl⟩) rfl rfl rfl hl.1 rfl (Nat.le_of_ble_eq_true rfl) dX0_share_2_198 ⟨Nat.zero_le _, Nat.zero_le _⟩ (fun s_31 H locs hw C => ?_)
          exact kX0_share_2_201 hX F hk151 x7 x9 x11 x12 s_31 _ _ _ hw C hl
set_option maxHeartbeats 4000000 in
theorem kX0_share_2_142 (hX : ∀ U, E U → EL U) {post : CS → Prop}  (F : Fx p s m args meth c cX0_share_2 13 RX0 none D d E A) : ∀ (x7 : Int64) (x9 : Int64) (st : CS) (H : Heap) (locs : List Loc) (ls : Array Slot), wX0_share_2_142  post  x7 x9 st → Cx D (wX o ad d) A s st H locs → lv_has ls 13 [(0, .ref o), (7, .long x7), (9, .long x9)] → W p l e (headSpec (ws_ yX0_share_2 cX0_share_2 13 none) rmX0_share_2).room s m args below meth c H locs 0 0 (QV below D d E (wX o ad d) A args s 0 0 post) (F0 m 142 ls []) := by
  obtain ⟨hx, hb, hr, hml, hown, hts, hlk, hA, hK, hE⟩ := id F
  intro x7 x9 st H locs ls hw C hl
  unfold wX0_share_2_142 at hw
  refine lv_aload_n hx hb dX0_share_2_142 rfl (lv_at hl 0 rfl) ?_
  refine x_callI (rest := []) (ci := 0) (q := (RX0, TX0, 41)) F C (ctX0_headsIn hE hX hw) (cwV 0 hts (lw_V q579 q581 qs20 q70 q582) rfl rfl rfl (by decide +kernel) ⟨Nat.le_of_ble_eq_true rfl, Nat.le_of_ble_eq_true rfl⟩) rfl rfl rfl hl.1 rfl (Nat.le_of_ble_eq_true rfl) dX0_share_2_143 ⟨Nat.zero_le _, Nat.zero_le _⟩ (fun r_20 s_19 H locs hw C => ?_)
  refine lv_istore (lv' := [(11, .int r_20), (0, .ref o), (7, .long x7), (9, .long x9)]) hx hb dX0_share_2_146 hl (by decide) rfl (fun ls hl => ?_)
  refine lv_iconst (v := 0) hx hb dX0_share_2_148 (by decide) ?_
  refine lv_istore (lv' := [(12, .int 0), (11, .int r_20), (0, .ref o), (7, .long x7), (9, .long x9)]) hx hb dX0_share_2_149 hl (by decide) rfl (fun ls hl => ?_)
  obtain ⟨fu, hw⟩ := hw
  exact kX0_share_2_151 hX F  fu x7 x9 r_20 0 s_19 _ _ _ hw C (lv_sub hl [2, 3, 4, 1, 0] rfl)
set_option maxHeartbeats 4000000 in
theorem kX0_share_2_119 (hX : ∀ U, E U → EL U) {post : CS → Prop}  (F : Fx p s m args meth c cX0_share_2 13 RX0 none D d E A) : ∀ (x1 : Int32) (x7 : Int64) (y0 : Int64) (st : CS) (H : Heap) (locs : List Loc) (ls : Array Slot), wX0_share_2_119  post  x1 x7 y0 st → Cx D (wX o ad d) A s st H locs → lv_has ls 13 [(0, .ref o), (1, .int x1), (7, .long x7)] → W p l e (headSpec (ws_ yX0_share_2 cX0_share_2 13 none) rmX0_share_2).room s m args below meth c H locs 0 0 (QV below D d E (wX o ad d) A args s 0 0 post) (F0 m 119 ls [.long y0]) := by
  obtain ⟨hx, hb, hr, hml, hown, hts, hlk, hA, hK, hE⟩ := id F
  intro x1 x7 y0 st H locs ls hw C hl
  unfold wX0_share_2_119 at hw
  refine lv_lstore (lv' := [(9, .long y0), (0, .ref o), (1, .int x1), (7, .long x7)]) hx hb dX0_share_2_119 hl (by decide) rfl (fun ls hl => ?_)
  refine lv_aload_n hx hb dX0_share_2_121 rfl (lv_at hl 1 rfl) ?_
  refine x_callV (rest := []) (ci := 0) (q := (RX0, TX0, 41)) F C (ctX0_clearDues hE hX hw) (cwV 0 hts (lw_V q601 q603 qs24 q70 q604) rfl rfl rfl (by decide +kernel) ⟨Nat.le_of_ble_eq_true rfl, Nat.le_of_ble_eq_true rfl⟩) rfl rfl rfl hl.1 rfl (Nat.le_of_ble_eq_true rfl) dX0_share_2_122 ⟨Nat.zero_le _, Nat.zero_le _⟩ (fun s_16 H locs hw C => ?_)
  refine lv_aload_n hx hb dX0_share_2_125 rfl (lv_at hl 1 rfl) ?_
  refine x0_g24 F C dX0_share_2_126 ?_
  refine lv_iconst (v := 1) hx hb dX0_share_2_129 (by decide) ?_
  refine lv_icmp_ne (tgt := 142) hx hb dX0_share_2_130 (by decide) (fun c_18 => ?_) (fun c_18 => ?_)
  · have hw := hw.2 c_18
    exact kX0_share_2_142 hX F  x7 y0 s_16 _ _ _ hw C (lv_sub hl [1, 3, 0] rfl)
  · have hw := hw.1 c_18
    refine lv_aload_n hx hb dX0_share_2_133 rfl (lv_at hl 1 rfl) ?_
    refine lv_iload_n hx hb dX0_share_2_134 rfl (lv_at hl 2 rfl) ?_
    refine lv_lload hx hb dX0_share_2_135 (lv_at hl 3 rfl) ?_
    refine lv_lload hx hb dX0_share_2_137 (lv_at hl 0 rfl) ?_
    refine x_callV (rest := []) (ci := 0) (q := (RX0, TX0, 41)) F C (ctX0_partsAmong hE hX hw) (cwV 3 hts (lw_V q605 q607 qs25 q70 q608) rfl rfl rfl (by decide +kernel) ⟨Nat.le_of_ble_eq_true rfl, Nat.le_of_ble_eq_true rfl⟩) rfl rfl rfl hl.1 rfl (Nat.le_of_ble_eq_true rfl) dX0_share_2_139 ⟨Nat.zero_le _, Nat.zero_le _⟩ (fun s_33 H locs hw C => ?_)
    exact kX0_share_2_142 hX F  x7 y0 s_33 _ _ _ hw C (lv_sub hl [1, 3, 0] rfl)
set_option maxHeartbeats 4000000 in
theorem kX0_share_2_105 (hX : ∀ U, E U → EL U) {post : CS → Prop}  (F : Fx p s m args meth c cX0_share_2 13 RX0 none D d E A) : ∀ (x1 : Int32) (x2 : Int32) (x5 : Int64) (y0 : Int64) (st : CS) (H : Heap) (locs : List Loc) (ls : Array Slot), wX0_share_2_105  post  x1 x2 x5 y0 st → Cx D (wX o ad d) A s st H locs → lv_has ls 13 [(0, .ref o), (1, .int x1), (2, .int x2), (5, .long x5)] → W p l e (headSpec (ws_ yX0_share_2 cX0_share_2 13 none) rmX0_share_2).room s m args below meth c H locs 0 0 (QV below D d E (wX o ad d) A args s 0 0 post) (F0 m 105 ls [.long y0]) := by
  obtain ⟨hx, hb, hr, hml, hown, hts, hlk, hA, hK, hE⟩ := id F
  intro x1 x2 x5 y0 st H locs ls hw C hl
  unfold wX0_share_2_105 at hw
  refine lv_lstore (lv' := [(7, .long y0), (0, .ref o), (1, .int x1), (2, .int x2), (5, .long x5)]) hx hb dX0_share_2_105 hl (by decide) rfl (fun ls hl => ?_)
  refine lv_iload_n hx hb dX0_share_2_107 rfl (lv_at hl 3 rfl) ?_
  refine lv_bipush (v := (-9)) hx hb dX0_share_2_108 (by decide) ?_
  refine lv_icmp_ne (tgt := 117) hx hb dX0_share_2_110 (by decide) (fun c_15 => ?_) (fun c_15 => ?_)
  · have hw := hw.2 c_15
    refine lv_lload hx hb dX0_share_2_117 (lv_at hl 4 rfl) ?_
    exact kX0_share_2_119 hX F  x1 y0 x5 st _ _ _ hw C (lv_sub hl [1, 2, 0] rfl)
  · have hw := hw.1 c_15
    refine lv_lconst (v := 1) hx hb dX0_share_2_113 (by decide) ?_
    refine lv_goto (tgt := 119) hx hb dX0_share_2_114 (by decide) ?_
    exact kX0_share_2_119 hX F  x1 y0 1 st _ _ _ hw C (lv_sub hl [1, 2, 0] rfl)
set_option maxHeartbeats 4000000 in
theorem kX0_share_2_91 (hX : ∀ U, E U → EL U) {post : CS → Prop}  (F : Fx p s m args meth c cX0_share_2 13 RX0 none D d E A) : ∀ (x1 : Int32) (x2 : Int32) (x3 : Int64) (x5 : Int64) (st : CS) (H : Heap) (locs : List Loc) (ls : Array Slot), wX0_share_2_91  post  x1 x2 x3 x5 st → Cx D (wX o ad d) A s st H locs → lv_has ls 13 [(0, .ref o), (1, .int x1), (2, .int x2), (3, .long x3), (5, .long x5)] → W p l e (headSpec (ws_ yX0_share_2 cX0_share_2 13 none) rmX0_share_2).room s m args below meth c H locs 0 0 (QV below D d E (wX o ad d) A args s 0 0 post) (F0 m 91 ls []) := by
  obtain ⟨hx, hb, hr, hml, hown, hts, hlk, hA, hK, hE⟩ := id F
  intro x1 x2 x3 x5 st H locs ls hw C hl
  unfold wX0_share_2_91 at hw
  refine lv_iload_n hx hb dX0_share_2_91 rfl (lv_at hl 2 rfl) ?_
  refine lv_bipush (v := (-9)) hx hb dX0_share_2_92 (by decide) ?_
  refine lv_icmp_ne (tgt := 101) hx hb dX0_share_2_94 (by decide) (fun c_14 => ?_) (fun c_14 => ?_)
  · have hw := hw.2 c_14
    refine lv_lload hx hb dX0_share_2_101 (lv_at hl 4 rfl) ?_
    refine lv_lload_n hx hb dX0_share_2_103 rfl (lv_at hl 3 rfl) ?_
    refine lv_lsub hx hb dX0_share_2_104 ?_
    exact kX0_share_2_105 hX F  x1 x2 x5 (x5 - x3) st _ _ _ hw C (lv_sub hl [0, 1, 2, 4] rfl)
  · have hw := hw.1 c_14
    refine lv_lconst (v := 1) hx hb dX0_share_2_97 (by decide) ?_
    refine lv_goto (tgt := 105) hx hb dX0_share_2_98 (by decide) ?_
    exact kX0_share_2_105 hX F  x1 x2 x5 1 st _ _ _ hw C (lv_sub hl [0, 1, 2, 4] rfl)
set_option maxHeartbeats 4000000 in
theorem kX0_share_2_65 (hX : ∀ U, E U → EL U) {post : CS → Prop}  (F : Fx p s m args meth c cX0_share_2 13 RX0 none D d E A) : ∀ (y0 : Int32) (st : CS) (H : Heap) (locs : List Loc) (ls : Array Slot), wX0_share_2_65  post  y0 st → Cx D (wX o ad d) A s st H locs → lv_has ls 13 [] → W p l e (headSpec (ws_ yX0_share_2 cX0_share_2 13 none) rmX0_share_2).room s m args below meth c H locs 0 0 (QV below D d E (wX o ad d) A args s 0 0 post) (F0 m 65 ls [.int y0, .ref o]) := by
  obtain ⟨hx, hb, hr, hml, hown, hts, hlk, hA, hK, hE⟩ := id F
  intro y0 st H locs ls hw C hl
  unfold wX0_share_2_65 at hw
  refine lv_lconst (v := 1) hx hb dX0_share_2_65 (by decide) ?_
  refine lv_lconst (v := 1) hx hb dX0_share_2_66 (by decide) ?_
  refine x_callV (rest := []) (ci := 0) (q := (RX0, TX0, 41)) F C (ctX0_gets hE hX hw) (cwV 3 hts (lw_V q587 q589 qs22 q70 q590) rfl rfl rfl (by decide +kernel) ⟨Nat.le_of_ble_eq_true rfl, Nat.le_of_ble_eq_true rfl⟩) rfl rfl rfl hl.1 rfl (Nat.le_of_ble_eq_true rfl) dX0_share_2_67 ⟨Nat.zero_le _, Nat.zero_le _⟩ (fun s_39 H locs hw C => ?_)
  exact x_vret F C hw dX0_share_2_70
theorem ctX0_share_2 (hE : Em E) (hX : ∀ U, E U → EL U) {post : CS → Prop} {s0 : CS} {p0 : Int32} (hw : wpX0_share_2  post s0 p0) : CtV l yX0_share_2 (ws_ yX0_share_2 cX0_share_2 13 none) rmX0_share_2 D d E (wX o ad d) 0 0 [.ref o, .int p0] s0 post := by
  refine CtV.of hE (by decide) rfl (Nat.le_of_ble_eq_true rfl) ?_
  intro p e s m below meth c A ls F C hl
  have hl : lv_has ls 13 [(0, .ref o), (1, .int p0)] := hl
  unfold wpX0_share_2 at hw
  obtain ⟨hx, hb, hr, hml, hown, hts, hlk, hA, hK, -⟩ := id F
  refine lv_aload_n hx hb dX0_share_2_0 rfl (lv_at hl 0 rfl) ?_
  refine lv_iload_n hx hb dX0_share_2_1 rfl (lv_at hl 1 rfl) ?_
  refine x_callV (rest := []) (ci := 0) (q := (RX0, TX0, 41)) F C (ctX0_layEstate hE hX hw) (cwV 1 hts (lw_V q536 q538 qs14 q70 q539) rfl rfl rfl (by decide +kernel) ⟨Nat.le_of_ble_eq_true rfl, Nat.le_of_ble_eq_true rfl⟩) rfl rfl rfl hl.1 rfl (Nat.le_of_ble_eq_true rfl) dX0_share_2_2 ⟨Nat.zero_le _, Nat.zero_le _⟩ (fun s_1 H locs hw C => ?_)
  refine lv_aload_n hx hb dX0_share_2_5 rfl (lv_at hl 0 rfl) ?_
  refine lv_aload_n hx hb dX0_share_2_6 rfl (lv_at hl 0 rfl) ?_
  refine x_callI (rest := [.ref o]) (ci := 0) (q := (RX0, TX0, 41)) F C (ctX0_findCircle hE hX hw) (cwV 0 hts (lw_V q559 q561 qs15 q70 q562) rfl rfl rfl (by decide +kernel) ⟨Nat.le_of_ble_eq_true rfl, Nat.le_of_ble_eq_true rfl⟩) rfl rfl rfl hl.1 rfl (Nat.le_of_ble_eq_true rfl) dX0_share_2_7 ⟨Nat.zero_le _, Nat.zero_le _⟩ (fun r_4 s_3 H locs hw C => ?_)
  refine x0_p24 F C dX0_share_2_10 (fun H locs s_5 es_5 C => ?_)
  have hw := hw s_5 es_5
  refine lv_aload_n hx hb dX0_share_2_13 rfl (lv_at hl 0 rfl) ?_
  refine x_callI (rest := []) (ci := 0) (q := (RX0, TX0, 41)) F C (ctX0_coupled hE hX hw) (cwV 0 hts (lw_V q583 q585 qs21 q70 q586) rfl rfl rfl (by decide +kernel) ⟨Nat.le_of_ble_eq_true rfl, Nat.le_of_ble_eq_true rfl⟩) rfl rfl rfl hl.1 rfl (Nat.le_of_ble_eq_true rfl) dX0_share_2_14 ⟨Nat.zero_le _, Nat.zero_le _⟩ (fun r_7 s_6 H locs hw C => ?_)
  refine lv_istore_n (lv' := [(2, .int r_7), (0, .ref o), (1, .int p0)]) hx hb dX0_share_2_17 rfl hl (by decide) rfl (fun ls hl => ?_)
  refine lv_aload_n hx hb dX0_share_2_18 rfl (lv_at hl 1 rfl) ?_
  refine x0_g15 F C dX0_share_2_19 ?_
  refine lv_aload_n hx hb dX0_share_2_22 rfl (lv_at hl 1 rfl) ?_
  refine x0_g17 F C dX0_share_2_23 ?_
  refine lv_iconst (v := 2) hx hb dX0_share_2_26 (by decide) ?_
  refine lv_iadd hx hb dX0_share_2_27 ?_
  obtain ⟨h_8, hw⟩ := hw
  refine x0_ld15 F C h_8 dX0_share_2_28 ?_
  refine lv_i2l (v := (sA s_6 15 ((sI s_6 17) + 2).toNatClampNeg).toInt64) hx hb dX0_share_2_29 rfl ?_
  refine lv_topl (fun x3_9 ex3_9 => ?_)
  have hw := hw x3_9 ex3_9
  refine lv_lstore_n (lv' := [(3, .long x3_9), (2, .int r_7), (0, .ref o), (1, .int p0)]) hx hb dX0_share_2_30 rfl hl (by decide) rfl (fun ls hl => ?_)
  refine lv_aload_n hx hb dX0_share_2_31 rfl (lv_at hl 2 rfl) ?_
  refine x0_g15 F C dX0_share_2_32 ?_
  refine lv_aload_n hx hb dX0_share_2_35 rfl (lv_at hl 2 rfl) ?_
  refine x0_g17 F C dX0_share_2_36 ?_
  refine lv_iconst (v := 3) hx hb dX0_share_2_39 (by decide) ?_
  refine lv_iadd hx hb dX0_share_2_40 ?_
  obtain ⟨h_10, hw⟩ := hw
  refine x0_ld15 F C h_10 dX0_share_2_41 ?_
  refine lv_i2l (v := (sA s_6 15 ((sI s_6 17) + 3).toNatClampNeg).toInt64) hx hb dX0_share_2_42 rfl ?_
  refine lv_topl (fun x5_11 ex5_11 => ?_)
  have hw := hw x5_11 ex5_11
  refine lv_lstore (lv' := [(5, .long x5_11), (3, .long x3_9), (2, .int r_7), (0, .ref o), (1, .int p0)]) hx hb dX0_share_2_43 hl (by decide) rfl (fun ls hl => ?_)
  refine lv_aload_n hx hb dX0_share_2_45 rfl (lv_at hl 3 rfl) ?_
  refine x0_g24 F C dX0_share_2_46 ?_
  refine lv_if_ne (tgt := 71) hx hb dX0_share_2_49 (by decide) (fun c_12 => ?_) (fun c_12 => ?_)
  · have hw := hw.2 c_12
    refine lv_iload_n hx hb dX0_share_2_71 rfl (lv_at hl 2 rfl) ?_
    refine lv_bipush (v := (-9)) hx hb dX0_share_2_72 (by decide) ?_
    refine lv_icmp_eq (tgt := 91) hx hb dX0_share_2_74 (by decide) (fun c_13 => ?_) (fun c_13 => ?_)
    · have hw := hw.1 c_13
      exact kX0_share_2_91 hX F  p0 r_7 x3_9 x5_11 s_6 _ _ _ hw C (lv_sub hl [3, 4, 2, 1, 0] rfl)
    · have hw := hw.2 c_13
      refine lv_lload_n hx hb dX0_share_2_77 rfl (lv_at hl 1 rfl) ?_
      refine lv_lconst (v := 0) hx hb dX0_share_2_78 (by decide) ?_
      refine W.lcmp hx hb dX0_share_2_79 ?_
      refine lv_if_le (tgt := 91) hx hb dX0_share_2_80 (by decide) (fun c_35 => ?_) (fun c_35 => ?_)
      · have hw := hw.1 ((lg_cmp_le _ _).mp c_35)
        exact kX0_share_2_91 hX F  p0 r_7 x3_9 x5_11 s_6 _ _ _ hw C (lv_sub hl [3, 4, 2, 1, 0] rfl)
      · have hw := hw.2 (fun h9 => c_35 ((lg_cmp_le _ _).mpr h9))
        refine lv_aload_n hx hb dX0_share_2_83 rfl (lv_at hl 3 rfl) ?_
        refine lv_iload_n hx hb dX0_share_2_84 rfl (lv_at hl 2 rfl) ?_
        refine lv_lload_n hx hb dX0_share_2_85 rfl (lv_at hl 1 rfl) ?_
        refine lv_lload hx hb dX0_share_2_86 (lv_at hl 0 rfl) ?_
        refine x_callV (rest := []) (ci := 0) (q := (RX0, TX0, 41)) F C (ctX0_gets hE hX hw) (cwV 3 hts (lw_V q587 q589 qs22 q70 q590) rfl rfl rfl (by decide +kernel) ⟨Nat.le_of_ble_eq_true rfl, Nat.le_of_ble_eq_true rfl⟩) rfl rfl rfl hl.1 rfl (Nat.le_of_ble_eq_true rfl) dX0_share_2_88 ⟨Nat.zero_le _, Nat.zero_le _⟩ (fun s_36 H locs hw C => ?_)
        exact kX0_share_2_91 hX F  p0 r_7 x3_9 x5_11 s_36 _ _ _ hw C (lv_sub hl [3, 4, 2, 1, 0] rfl)
  · have hw := hw.1 c_12
    refine lv_aload_n hx hb dX0_share_2_52 rfl (lv_at hl 3 rfl) ?_
    refine lv_iload_n hx hb dX0_share_2_53 rfl (lv_at hl 2 rfl) ?_
    refine lv_bipush (v := (-9)) hx hb dX0_share_2_54 (by decide) ?_
    refine lv_icmp_ne (tgt := 64) hx hb dX0_share_2_56 (by decide) (fun c_38 => ?_) (fun c_38 => ?_)
    · have hw := hw.2 c_38
      refine lv_iload_n hx hb dX0_share_2_64 rfl (lv_at hl 2 rfl) ?_
      exact kX0_share_2_65 hX F  r_7 s_6 _ _ _ hw C (lv_sub hl [] rfl)
    · have hw := hw.1 c_38
      refine lv_bipush (v := 24) hx hb dX0_share_2_59 (by decide) ?_
      refine lv_goto (tgt := 65) hx hb dX0_share_2_61 (by decide) ?_
      exact kX0_share_2_65 hX F  24 s_6 _ _ _ hw C (lv_sub hl [] rfl)

abbrev rmX0_placeOf : Room := { frames := 0, cells := 0, slots := 0, locals := 0 }
def wpX0_placeOf  (post : Int32 → CS → Prop) (s0 : CS) (p0 : Int32) : Prop := ((p0 = (-9) → (post 24 s0)) ∧ (¬ p0 = (-9) → (post p0 s0)))
theorem ctX0_placeOf (hE : Em E)  {post : Int32 → CS → Prop} {s0 : CS} {p0 : Int32} (hw : wpX0_placeOf  post s0 p0) : CtI l yX0_placeOf (ws_ yX0_placeOf cX0_placeOf 1 (some .int)) rmX0_placeOf D d E wf 0 0 [.int p0] s0 post := by
  refine CtI.of hE (by decide) rfl (Nat.le_of_ble_eq_true rfl) ?_
  intro p e s m below meth c A ls F C hl
  have hl : lv_has ls 1 [(0, .int p0)] := hl
  unfold wpX0_placeOf at hw
  obtain ⟨hx, hb, hr, hml, hown, hts, hlk, hA, hK, -⟩ := id F
  refine lv_iload_n hx hb dX0_placeOf_0 rfl (lv_at hl 0 rfl) ?_
  refine lv_bipush (v := (-9)) hx hb dX0_placeOf_1 (by decide) ?_
  refine lv_icmp_ne (tgt := 11) hx hb dX0_placeOf_3 (by decide) (fun c_1 => ?_) (fun c_1 => ?_)
  · have hw := hw.2 c_1
    refine lv_iload_n hx hb dX0_placeOf_11 rfl (lv_at hl 0 rfl) ?_
    exact x_iret F C hw dX0_placeOf_12
  · have hw := hw.1 c_1
    refine lv_bipush (v := 24) hx hb dX0_placeOf_6 (by decide) ?_
    refine lv_goto (tgt := 12) hx hb dX0_placeOf_8 (by decide) ?_
    exact x_iret F C hw dX0_placeOf_12

abbrev rmX0_tells : Room := { frames := 2, cells := 0, slots := 0, locals := 44 }
def wpX0_tells  (post : Int32 → CS → Prop) (s0 : CS) (p0 : Int64) (p1 : Int64) : Prop := (wpX0_gcd (fun r_2 s_1 => (¬ r_2 = 0 ∧ (∀ s_4 : CS, s_4 = uL s_1 2 (p0 / r_2) → (¬ r_2 = 0 ∧ (∀ s_6 : CS, s_6 = uL s_4 3 (p1 / r_2) → (post 1 s_6)))))) s0 p0 p1)
theorem ctX0_tells (hE : Em E) (hX : ∀ U, E U → EL U) {post : Int32 → CS → Prop} {s0 : CS} {p0 p1 : Int64} (hw : wpX0_tells  post s0 p0 p1) : CtI l yX0_tells (ws_ yX0_tells cX0_tells 7 (some .int)) rmX0_tells D d E (wX o ad d) 0 0 [.ref o, .long p0, .long p1] s0 post := by
  refine CtI.of hE (by decide) rfl (Nat.le_of_ble_eq_true rfl) ?_
  intro p e s m below meth c A ls F C hl
  have hl : lv_has ls 7 [(0, .ref o), (1, .long p0), (3, .long p1)] := hl
  unfold wpX0_tells at hw
  obtain ⟨hx, hb, hr, hml, hown, hts, hlk, hA, hK, -⟩ := id F
  refine lv_lload_n hx hb dX0_tells_0 rfl (lv_at hl 1 rfl) ?_
  refine lv_lload_n hx hb dX0_tells_1 rfl (lv_at hl 2 rfl) ?_
  refine x_callSL (rest := []) F C (ctX0_gcd hE hw) (va_cwS 2 hts (lw_S q595 q596 q70 q597) rfl rfl rfl (by decide +kernel) ⟨Nat.le_of_ble_eq_true rfl, Nat.le_of_ble_eq_true rfl⟩) rfl hl.1 rfl (Nat.le_of_ble_eq_true rfl) dX0_tells_2 ⟨Nat.zero_le _, Nat.zero_le _⟩ (fun r_2 s_1 H locs hw C => ?_)
  refine lv_lstore (lv' := [(5, .long r_2), (0, .ref o), (1, .long p0), (3, .long p1)]) hx hb dX0_tells_5 hl (by decide) rfl (fun ls hl => ?_)
  refine lv_aload_n hx hb dX0_tells_7 rfl (lv_at hl 1 rfl) ?_
  refine lv_lload_n hx hb dX0_tells_8 rfl (lv_at hl 2 rfl) ?_
  refine lv_lload hx hb dX0_tells_9 (lv_at hl 0 rfl) ?_
  obtain ⟨h_3, hw⟩ := hw
  refine lv_ldiv hx hb dX0_tells_11 h_3 ?_
  refine x0_p2 F C dX0_tells_12 (fun H locs s_4 es_4 C => ?_)
  have hw := hw s_4 es_4
  refine lv_aload_n hx hb dX0_tells_15 rfl (lv_at hl 1 rfl) ?_
  refine lv_lload_n hx hb dX0_tells_16 rfl (lv_at hl 3 rfl) ?_
  refine lv_lload hx hb dX0_tells_17 (lv_at hl 0 rfl) ?_
  obtain ⟨h_5, hw⟩ := hw
  refine lv_ldiv hx hb dX0_tells_19 h_5 ?_
  refine x0_p3 F C dX0_tells_20 (fun H locs s_6 es_6 C => ?_)
  have hw := hw s_6 es_6
  refine lv_iconst (v := 1) hx hb dX0_tells_23 (by decide) ?_
  exact x_iret F C hw dX0_tells_24

abbrev rmX0_share : Room := { frames := 54, cells := 0, slots := 0, locals := 1202 }
def wpX0_share  (post : Int32 → CS → Prop) (s0 : CS) (p0 : Int32) (p1 : Int32) (p2 : Int32) : Prop := (wpX0_isOwner (fun r_2 s_1 => (wpX0_need (fun r_4 s_3 => ((0 ≤ r_4 → (wpX0_takeAll (fun s_6 => (wpX0_share_2 (fun s_8 => (wpX0_placeOf (fun r_11 s_10 => (vp_in r_11 25 ∧ (wpX0_placeOf (fun r_14 s_13 => (vp_in r_14 25 ∧ (wpX0_tells (fun r_17 s_16 => (post r_17 s_16)) s_13 (sM s_10 22 r_11.toNatClampNeg) (sM s_13 23 r_14.toNatClampNeg)))) s_10 p1))) s_8 p1)) s_6 p0)) s_3 p2)) ∧ (¬ 0 ≤ r_4 → (post r_4 s_3)))) s_1 r_2 p0)) s0 p1)
theorem ctX0_share (hE : Em E) (hX : ∀ U, E U → EL U) {post : Int32 → CS → Prop} {s0 : CS} {p0 p1 p2 : Int32} (hw : wpX0_share  post s0 p0 p1 p2) : CtI l yX0_share (ws_ yX0_share cX0_share 5 (some .int)) rmX0_share D d E (wX o ad d) 0 0 [.ref o, .int p0, .int p1, .int p2] s0 post := by
  refine CtI.of hE (by decide) rfl (Nat.le_of_ble_eq_true rfl) ?_
  intro p e s m below meth c A ls F C hl
  have hl : lv_has ls 5 [(0, .ref o), (1, .int p0), (2, .int p1), (3, .int p2)] := hl
  unfold wpX0_share at hw
  obtain ⟨hx, hb, hr, hml, hown, hts, hlk, hA, hK, -⟩ := id F
  refine lv_aload_n hx hb dX0_share_0 rfl (lv_at hl 0 rfl) ?_
  refine lv_aload_n hx hb dX0_share_1 rfl (lv_at hl 0 rfl) ?_
  refine lv_iload_n hx hb dX0_share_2 rfl (lv_at hl 2 rfl) ?_
  refine x_callI (rest := [.ref o]) (ci := 0) (q := (RX0, TX0, 41)) F C (ctX0_isOwner hE hX hw) (cwV 1 hts (lw_V q524 q526 qs11 q70 q527) rfl rfl rfl (by decide +kernel) ⟨Nat.le_of_ble_eq_true rfl, Nat.le_of_ble_eq_true rfl⟩) rfl rfl rfl hl.1 rfl (Nat.le_of_ble_eq_true rfl) dX0_share_3 ⟨Nat.zero_le _, Nat.zero_le _⟩ (fun r_2 s_1 H locs hw C => ?_)
  refine lv_iload_n hx hb dX0_share_6 rfl (lv_at hl 1 rfl) ?_
  refine x_callI (rest := []) (ci := 0) (q := (RX0, TX0, 41)) F C (ctX0_need hE hX hw) (cwV 2 hts (lw_V q508 q510 qs8 q70 q511) rfl rfl rfl (by decide +kernel) ⟨Nat.le_of_ble_eq_true rfl, Nat.le_of_ble_eq_true rfl⟩) rfl rfl rfl hl.1 rfl (Nat.le_of_ble_eq_true rfl) dX0_share_7 ⟨Nat.zero_le _, Nat.zero_le _⟩ (fun r_4 s_3 H locs hw C => ?_)
  refine lv_istore (lv' := [(4, .int r_4), (0, .ref o), (1, .int p0), (2, .int p1), (3, .int p2)]) hx hb dX0_share_10 hl (by decide) rfl (fun ls hl => ?_)
  refine lv_iload hx hb dX0_share_12 (lv_at hl 0 rfl) ?_
  refine lv_if_ge (tgt := 20) hx hb dX0_share_14 (by decide) (fun c_5 => ?_) (fun c_5 => ?_)
  · have hw := hw.1 c_5
    refine lv_aload_n hx hb dX0_share_20 rfl (lv_at hl 1 rfl) ?_
    refine lv_iload_n hx hb dX0_share_21 rfl (lv_at hl 4 rfl) ?_
    refine x_callV (rest := []) (ci := 0) (q := (RX0, TX0, 41)) F C (ctX0_takeAll hE hX hw) (cwV 1 hts (lw_V q528 q530 qs12 q70 q531) rfl rfl rfl (by decide +kernel) ⟨Nat.le_of_ble_eq_true rfl, Nat.le_of_ble_eq_true rfl⟩) rfl rfl rfl hl.1 rfl (Nat.le_of_ble_eq_true rfl) dX0_share_22 ⟨Nat.zero_le _, Nat.zero_le _⟩ (fun s_6 H locs hw C => ?_)
    refine lv_aload_n hx hb dX0_share_25 rfl (lv_at hl 1 rfl) ?_
    refine lv_iload_n hx hb dX0_share_26 rfl (lv_at hl 2 rfl) ?_
    refine x_callV (rest := []) (ci := 0) (q := (RX0, TX0, 41)) F C (ctX0_share_2 hE hX hw) (cwV 1 hts (lw_V q532 q534 qs13 q70 q535) rfl rfl rfl (by decide +kernel) ⟨Nat.le_of_ble_eq_true rfl, Nat.le_of_ble_eq_true rfl⟩) rfl rfl rfl hl.1 rfl (Nat.le_of_ble_eq_true rfl) dX0_share_27 ⟨Nat.zero_le _, Nat.zero_le _⟩ (fun s_8 H locs hw C => ?_)
    refine lv_aload_n hx hb dX0_share_30 rfl (lv_at hl 1 rfl) ?_
    refine lv_aload_n hx hb dX0_share_31 rfl (lv_at hl 1 rfl) ?_
    refine x0_g22 F C dX0_share_32 ?_
    refine lv_iload_n hx hb dX0_share_35 rfl (lv_at hl 3 rfl) ?_
    refine x_callSI (rest := [.ref (ad 22), .ref o]) F C (ctX0_placeOf hE hw) (va_cwS 1 hts (lw_S q617 q618 q70 q619) rfl rfl rfl (by decide +kernel) ⟨Nat.le_of_ble_eq_true rfl, Nat.le_of_ble_eq_true rfl⟩) rfl hl.1 rfl (Nat.le_of_ble_eq_true rfl) dX0_share_36 ⟨Nat.zero_le _, Nat.zero_le _⟩ (fun r_11 s_10 H locs hw C => ?_)
    obtain ⟨h_12, hw⟩ := hw
    refine x0_ld22 F C h_12 dX0_share_39 ?_
    refine lv_aload_n hx hb dX0_share_40 rfl (lv_at hl 1 rfl) ?_
    refine x0_g23 F C dX0_share_41 ?_
    refine lv_iload_n hx hb dX0_share_44 rfl (lv_at hl 3 rfl) ?_
    refine x_callSI (rest := [.ref (ad 23), .long (sM s_10 22 r_11.toNatClampNeg), .ref o]) F C (ctX0_placeOf hE hw) (va_cwS 1 hts (lw_S q617 q618 q70 q619) rfl rfl rfl (by decide +kernel) ⟨Nat.le_of_ble_eq_true rfl, Nat.le_of_ble_eq_true rfl⟩) rfl hl.1 rfl (Nat.le_of_ble_eq_true rfl) dX0_share_45 ⟨Nat.zero_le _, Nat.zero_le _⟩ (fun r_14 s_13 H locs hw C => ?_)
    obtain ⟨h_15, hw⟩ := hw
    refine x0_ld23 F C h_15 dX0_share_48 ?_
    refine x_callI (rest := []) (ci := 0) (q := (RX0, TX0, 41)) F C (ctX0_tells hE hX hw) (cwV 2 hts (lw_V q620 q622 qs28 q70 q623) rfl rfl rfl (by decide +kernel) ⟨Nat.le_of_ble_eq_true rfl, Nat.le_of_ble_eq_true rfl⟩) rfl rfl rfl hl.1 rfl (Nat.le_of_ble_eq_true rfl) dX0_share_49 ⟨Nat.zero_le _, Nat.zero_le _⟩ (fun r_17 s_16 H locs hw C => ?_)
    exact x_iret F C hw dX0_share_52
  · have hw := hw.2 c_5
    refine lv_iload hx hb dX0_share_17 (lv_at hl 0 rfl) ?_
    exact x_iret F C hw dX0_share_19

abbrev rmX0_circle : Room := { frames := 54, cells := 0, slots := 0, locals := 1202 }
def wpX0_circle  (post : Int32 → CS → Prop) (s0 : CS) (p0 : Int32) (p1 : Int32) : Prop := (wpX0_need (fun r_2 s_1 => ((0 ≤ r_2 → (wpX0_takeAll (fun s_4 => (wpX0_share_2 (fun s_6 => (post (sI s_6 24) s_6)) s_4 p0)) s_1 p1)) ∧ (¬ 0 ≤ r_2 → (post r_2 s_1)))) s0 1 p0)
theorem ctX0_circle (hE : Em E) (hX : ∀ U, E U → EL U) {post : Int32 → CS → Prop} {s0 : CS} {p0 p1 : Int32} (hw : wpX0_circle  post s0 p0 p1) : CtI l yX0_circle (ws_ yX0_circle cX0_circle 4 (some .int)) rmX0_circle D d E (wX o ad d) 0 0 [.ref o, .int p0, .int p1] s0 post := by
  refine CtI.of hE (by decide) rfl (Nat.le_of_ble_eq_true rfl) ?_
  intro p e s m below meth c A ls F C hl
  have hl : lv_has ls 4 [(0, .ref o), (1, .int p0), (2, .int p1)] := hl
  unfold wpX0_circle at hw
  obtain ⟨hx, hb, hr, hml, hown, hts, hlk, hA, hK, -⟩ := id F
  refine lv_aload_n hx hb dX0_circle_0 rfl (lv_at hl 0 rfl) ?_
  refine lv_iconst (v := 1) hx hb dX0_circle_1 (by decide) ?_
  refine lv_iload_n hx hb dX0_circle_2 rfl (lv_at hl 1 rfl) ?_
  refine x_callI (rest := []) (ci := 0) (q := (RX0, TX0, 41)) F C (ctX0_need hE hX hw) (cwV 2 hts (lw_V q508 q510 qs8 q70 q511) rfl rfl rfl (by decide +kernel) ⟨Nat.le_of_ble_eq_true rfl, Nat.le_of_ble_eq_true rfl⟩) rfl rfl rfl hl.1 rfl (Nat.le_of_ble_eq_true rfl) dX0_circle_3 ⟨Nat.zero_le _, Nat.zero_le _⟩ (fun r_2 s_1 H locs hw C => ?_)
  refine lv_istore_n (lv' := [(3, .int r_2), (0, .ref o), (1, .int p0), (2, .int p1)]) hx hb dX0_circle_6 rfl hl (by decide) rfl (fun ls hl => ?_)
  refine lv_iload_n hx hb dX0_circle_7 rfl (lv_at hl 0 rfl) ?_
  refine lv_if_ge (tgt := 13) hx hb dX0_circle_8 (by decide) (fun c_3 => ?_) (fun c_3 => ?_)
  · have hw := hw.1 c_3
    refine lv_aload_n hx hb dX0_circle_13 rfl (lv_at hl 1 rfl) ?_
    refine lv_iload_n hx hb dX0_circle_14 rfl (lv_at hl 3 rfl) ?_
    refine x_callV (rest := []) (ci := 0) (q := (RX0, TX0, 41)) F C (ctX0_takeAll hE hX hw) (cwV 1 hts (lw_V q528 q530 qs12 q70 q531) rfl rfl rfl (by decide +kernel) ⟨Nat.le_of_ble_eq_true rfl, Nat.le_of_ble_eq_true rfl⟩) rfl rfl rfl hl.1 rfl (Nat.le_of_ble_eq_true rfl) dX0_circle_15 ⟨Nat.zero_le _, Nat.zero_le _⟩ (fun s_4 H locs hw C => ?_)
    refine lv_aload_n hx hb dX0_circle_18 rfl (lv_at hl 1 rfl) ?_
    refine lv_iload_n hx hb dX0_circle_19 rfl (lv_at hl 2 rfl) ?_
    refine x_callV (rest := []) (ci := 0) (q := (RX0, TX0, 41)) F C (ctX0_share_2 hE hX hw) (cwV 1 hts (lw_V q532 q534 qs13 q70 q535) rfl rfl rfl (by decide +kernel) ⟨Nat.le_of_ble_eq_true rfl, Nat.le_of_ble_eq_true rfl⟩) rfl rfl rfl hl.1 rfl (Nat.le_of_ble_eq_true rfl) dX0_circle_20 ⟨Nat.zero_le _, Nat.zero_le _⟩ (fun s_6 H locs hw C => ?_)
    refine lv_aload_n hx hb dX0_circle_23 rfl (lv_at hl 1 rfl) ?_
    refine x0_g24 F C dX0_circle_24 ?_
    exact x_iret F C hw dX0_circle_27
  · have hw := hw.2 c_3
    refine lv_iload_n hx hb dX0_circle_11 rfl (lv_at hl 0 rfl) ?_
    exact x_iret F C hw dX0_circle_12

abbrev rmX0_heirs : Room := { frames := 54, cells := 0, slots := 0, locals := 1202 }
def wX0_heirs_57  (post : Int32 → CS → Prop) (k29 : Int32 → Int32 → CS → Prop) (x5 : Int32) (y0 : Int32) (y1 : Int32) (st : CS) : Prop := (∀ x4_11 : Int32, x4_11 = (y1 + y0) → (∀ x5_12 : Int32, x5_12 = x5 + 1 → (k29 x4_11 x5_12 st)))
def wX0_heirs_29  (post : Int32 → CS → Prop)  : Nat → Int32 → Int32 → CS → Prop
  | 0 => fun _ _ _ => False
  | n + 1 => fun x4 x5 st => (((sI st 6) ≤ x5 → (post x4 st)) ∧ (¬ (sI st 6) ≤ x5 → (vp_in x5 25 ∧ (((sM st 22 x5.toNatClampNeg) ≤ 0 → (wX0_heirs_57  post (wX0_heirs_29  post  n) x5 0 x4 st)) ∧ (¬ (sM st 22 x5.toNatClampNeg) ≤ 0 → (wX0_heirs_57  post (wX0_heirs_29  post  n) x5 1 x4 st))))))
def wpX0_heirs  (post : Int32 → CS → Prop) (s0 : CS) (p0 : Int32) (p1 : Int32) : Prop := (wpX0_need (fun r_2 s_1 => ((0 ≤ r_2 → (wpX0_takeAll (fun s_4 => (wpX0_share_2 (fun s_6 => (∃ fu : Nat, wX0_heirs_29  post  fu 0 0 s_6)) s_4 p0)) s_1 p1)) ∧ (¬ 0 ≤ r_2 → (post r_2 s_1)))) s0 1 p0)
set_option maxHeartbeats 4000000 in
theorem kX0_heirs_57 (hX : ∀ U, E U → EL U) {post : Int32 → CS → Prop} {k29 : Int32 → Int32 → CS → Prop} (F : Fx p s m args meth c cX0_heirs 6 RX0 (some .int) D d E A) (hk29 : ∀ (x4 : Int32) (x5 : Int32) (st : CS) (H : Heap) (locs : List Loc) (ls : Array Slot), k29 x4 x5 st → Cx D (wX o ad d) A s st H locs → lv_has ls 6 [(0, .ref o), (4, .int x4), (5, .int x5)] → W p l e (headSpec (ws_ yX0_heirs cX0_heirs 6 (some .int)) rmX0_heirs).room s m args below meth c H locs 0 0 (QI below D d E (wX o ad d) A args s 0 0 post) (F0 m 29 ls [])) : ∀ (x5 : Int32) (y0 : Int32) (y1 : Int32) (st : CS) (H : Heap) (locs : List Loc) (ls : Array Slot), wX0_heirs_57  post k29 x5 y0 y1 st → Cx D (wX o ad d) A s st H locs → lv_has ls 6 [(0, .ref o), (5, .int x5)] → W p l e (headSpec (ws_ yX0_heirs cX0_heirs 6 (some .int)) rmX0_heirs).room s m args below meth c H locs 0 0 (QI below D d E (wX o ad d) A args s 0 0 post) (F0 m 57 ls [.int y0, .int y1]) := by
  obtain ⟨hx, hb, hr, hml, hown, hts, hlk, hA, hK, hE⟩ := id F
  intro x5 y0 y1 st H locs ls hw C hl
  unfold wX0_heirs_57 at hw
  refine lv_iadd hx hb dX0_heirs_57 ?_
  refine lv_topi (fun x4_11 ex4_11 => ?_)
  have hw := hw x4_11 ex4_11
  refine lv_istore (lv' := [(4, .int x4_11), (0, .ref o), (5, .int x5)]) hx hb dX0_heirs_58 hl (by decide) rfl (fun ls hl => ?_)
  obtain ⟨x5_12, ex5_12⟩ : ∃ y : Int32, y = x5 + 1 := ⟨_, rfl⟩
  have hw := hw x5_12 ex5_12
  refine lv_iinc (v := x5_12) (lv' := [(5, .int x5_12), (4, .int x4_11), (0, .ref o)]) hx hb dX0_heirs_60 hl (k := 2) rfl (by rw [ex5_12]; rfl) (by decide) rfl (fun ls hl => ?_)
  refine lv_goto (tgt := 29) hx hb dX0_heirs_63 (by decide) ?_
  exact hk29 x4_11 x5_12 st _ _ _ hw C (lv_sub hl [2, 1, 0] rfl)
set_option maxHeartbeats 4000000 in
theorem kX0_heirs_29 (hX : ∀ U, E U → EL U) {post : Int32 → CS → Prop}  (F : Fx p s m args meth c cX0_heirs 6 RX0 (some .int) D d E A) : ∀ (fu : Nat) (x4 : Int32) (x5 : Int32) (st : CS) (H : Heap) (locs : List Loc) (ls : Array Slot), wX0_heirs_29  post  fu x4 x5 st → Cx D (wX o ad d) A s st H locs → lv_has ls 6 [(0, .ref o), (4, .int x4), (5, .int x5)] → W p l e (headSpec (ws_ yX0_heirs cX0_heirs 6 (some .int)) rmX0_heirs).room s m args below meth c H locs 0 0 (QI below D d E (wX o ad d) A args s 0 0 post) (F0 m 29 ls []) := by
  obtain ⟨hx, hb, hr, hml, hown, hts, hlk, hA, hK, hE⟩ := id F
  intro fu
  induction fu with
  | zero =>
    intro x4 x5 st H locs ls hw
    exact hw.elim
  | succ n ih =>
    have hk29 := ih
    intro x4 x5 st H locs ls hw C hl
    unfold wX0_heirs_29 at hw
    refine lv_iload hx hb dX0_heirs_29 (lv_at hl 2 rfl) ?_
    refine lv_aload_n hx hb dX0_heirs_31 rfl (lv_at hl 0 rfl) ?_
    refine x0_g6 F C dX0_heirs_32 ?_
    refine lv_icmp_ge (tgt := 66) hx hb dX0_heirs_35 (by decide) (fun c_8 => ?_) (fun c_8 => ?_)
    · have hw := hw.1 c_8
      refine lv_iload hx hb dX0_heirs_66 (lv_at hl 1 rfl) ?_
      exact x_iret F C hw dX0_heirs_68
    · have hw := hw.2 c_8
      refine lv_iload hx hb dX0_heirs_38 (lv_at hl 1 rfl) ?_
      refine lv_aload_n hx hb dX0_heirs_40 rfl (lv_at hl 0 rfl) ?_
      refine x0_g22 F C dX0_heirs_41 ?_
      refine lv_iload hx hb dX0_heirs_44 (lv_at hl 2 rfl) ?_
      obtain ⟨h_9, hw⟩ := hw
      refine x0_ld22 F C h_9 dX0_heirs_46 ?_
      refine lv_lconst (v := 0) hx hb dX0_heirs_47 (by decide) ?_
      refine W.lcmp hx hb dX0_heirs_48 ?_
      refine lv_if_le (tgt := 56) hx hb dX0_heirs_49 (by decide) (fun c_10 => ?_) (fun c_10 => ?_)
      · have hw := hw.1 ((lg_cmp_le _ _).mp c_10)
        refine lv_iconst (v := 0) hx hb dX0_heirs_56 (by decide) ?_
        exact kX0_heirs_57 hX F hk29 x5 0 x4 st _ _ _ hw C (lv_sub hl [0, 2] rfl)
      · have hw := hw.2 (fun h9 => c_10 ((lg_cmp_le _ _).mpr h9))
        refine lv_iconst (v := 1) hx hb dX0_heirs_52 (by decide) ?_
        refine lv_goto (tgt := 57) hx hb dX0_heirs_53 (by decide) ?_
        exact kX0_heirs_57 hX F hk29 x5 1 x4 st _ _ _ hw C (lv_sub hl [0, 2] rfl)
theorem ctX0_heirs (hE : Em E) (hX : ∀ U, E U → EL U) {post : Int32 → CS → Prop} {s0 : CS} {p0 p1 : Int32} (hw : wpX0_heirs  post s0 p0 p1) : CtI l yX0_heirs (ws_ yX0_heirs cX0_heirs 6 (some .int)) rmX0_heirs D d E (wX o ad d) 0 0 [.ref o, .int p0, .int p1] s0 post := by
  refine CtI.of hE (by decide) rfl (Nat.le_of_ble_eq_true rfl) ?_
  intro p e s m below meth c A ls F C hl
  have hl : lv_has ls 6 [(0, .ref o), (1, .int p0), (2, .int p1)] := hl
  unfold wpX0_heirs at hw
  obtain ⟨hx, hb, hr, hml, hown, hts, hlk, hA, hK, -⟩ := id F
  refine lv_aload_n hx hb dX0_heirs_0 rfl (lv_at hl 0 rfl) ?_
  refine lv_iconst (v := 1) hx hb dX0_heirs_1 (by decide) ?_
  refine lv_iload_n hx hb dX0_heirs_2 rfl (lv_at hl 1 rfl) ?_
  refine x_callI (rest := []) (ci := 0) (q := (RX0, TX0, 41)) F C (ctX0_need hE hX hw) (cwV 2 hts (lw_V q508 q510 qs8 q70 q511) rfl rfl rfl (by decide +kernel) ⟨Nat.le_of_ble_eq_true rfl, Nat.le_of_ble_eq_true rfl⟩) rfl rfl rfl hl.1 rfl (Nat.le_of_ble_eq_true rfl) dX0_heirs_3 ⟨Nat.zero_le _, Nat.zero_le _⟩ (fun r_2 s_1 H locs hw C => ?_)
  refine lv_istore_n (lv' := [(3, .int r_2), (0, .ref o), (1, .int p0), (2, .int p1)]) hx hb dX0_heirs_6 rfl hl (by decide) rfl (fun ls hl => ?_)
  refine lv_iload_n hx hb dX0_heirs_7 rfl (lv_at hl 0 rfl) ?_
  refine lv_if_ge (tgt := 13) hx hb dX0_heirs_8 (by decide) (fun c_3 => ?_) (fun c_3 => ?_)
  · have hw := hw.1 c_3
    refine lv_aload_n hx hb dX0_heirs_13 rfl (lv_at hl 1 rfl) ?_
    refine lv_iload_n hx hb dX0_heirs_14 rfl (lv_at hl 3 rfl) ?_
    refine x_callV (rest := []) (ci := 0) (q := (RX0, TX0, 41)) F C (ctX0_takeAll hE hX hw) (cwV 1 hts (lw_V q528 q530 qs12 q70 q531) rfl rfl rfl (by decide +kernel) ⟨Nat.le_of_ble_eq_true rfl, Nat.le_of_ble_eq_true rfl⟩) rfl rfl rfl hl.1 rfl (Nat.le_of_ble_eq_true rfl) dX0_heirs_15 ⟨Nat.zero_le _, Nat.zero_le _⟩ (fun s_4 H locs hw C => ?_)
    refine lv_aload_n hx hb dX0_heirs_18 rfl (lv_at hl 1 rfl) ?_
    refine lv_iload_n hx hb dX0_heirs_19 rfl (lv_at hl 2 rfl) ?_
    refine x_callV (rest := []) (ci := 0) (q := (RX0, TX0, 41)) F C (ctX0_share_2 hE hX hw) (cwV 1 hts (lw_V q532 q534 qs13 q70 q535) rfl rfl rfl (by decide +kernel) ⟨Nat.le_of_ble_eq_true rfl, Nat.le_of_ble_eq_true rfl⟩) rfl rfl rfl hl.1 rfl (Nat.le_of_ble_eq_true rfl) dX0_heirs_20 ⟨Nat.zero_le _, Nat.zero_le _⟩ (fun s_6 H locs hw C => ?_)
    refine lv_iconst (v := 0) hx hb dX0_heirs_23 (by decide) ?_
    refine lv_istore (lv' := [(4, .int 0), (3, .int r_2), (0, .ref o), (1, .int p0), (2, .int p1)]) hx hb dX0_heirs_24 hl (by decide) rfl (fun ls hl => ?_)
    refine lv_iconst (v := 0) hx hb dX0_heirs_26 (by decide) ?_
    refine lv_istore (lv' := [(5, .int 0), (4, .int 0), (3, .int r_2), (0, .ref o), (1, .int p0), (2, .int p1)]) hx hb dX0_heirs_27 hl (by decide) rfl (fun ls hl => ?_)
    obtain ⟨fu, hw⟩ := hw
    exact kX0_heirs_29 hX F  fu 0 0 s_6 _ _ _ hw C (lv_sub hl [3, 1, 0] rfl)
  · have hw := hw.2 c_3
    refine lv_iload_n hx hb dX0_heirs_11 rfl (lv_at hl 0 rfl) ?_
    exact x_iret F C hw dX0_heirs_12

abbrev rmX0_layOpen : Room := { frames := 1, cells := 0, slots := 0, locals := 20 }
def wX0_layOpen_47  (post : CS → Prop) (k7 : Int32 → CS → Prop) (x1 : Int32) (st : CS) : Prop := (∀ x1_7 : Int32, x1_7 = x1 + 1 → (k7 x1_7 st))
def wX0_layOpen_7  (post : CS → Prop)  : Nat → Int32 → CS → Prop
  | 0 => fun _ _ => False
  | n + 1 => fun x1 st => (((sI st 11) ≤ x1 → (post st)) ∧ (¬ (sI st 11) ≤ x1 → (vp_in x1 40 ∧ ∃ a_4 : Nat, sR st 10 x1.toNatClampNeg = some a_4 ∧ (okE st a_4 ∧ (((openC (sE st a_4).1 ((sE st a_4).2.2 2)) = 0 → (wX0_layOpen_47  post (wX0_layOpen_7  post  n) x1 st)) ∧ (¬ (openC (sE st a_4).1 ((sE st a_4).2.2 2)) = 0 → (vp_in (sI st 31) 40 ∧ ∀ s_9 : CS, s_9 = uA st 30 (sI st 31).toNatClampNeg x1 → (∀ s_10 : CS, s_10 = uI s_9 31 ((sI s_9 31) + 1) → (wX0_layOpen_47  post (wX0_layOpen_7  post  n) x1 s_10)))))))))
def wpX0_layOpen  (post : CS → Prop) (s0 : CS)  : Prop := (∀ s_1 : CS, s_1 = uI s0 31 0 → (∃ fu : Nat, wX0_layOpen_7  post  fu 0 s_1))
set_option maxHeartbeats 4000000 in
theorem kX0_layOpen_47 (hX : ∀ U, E U → EL U) {post : CS → Prop} {k7 : Int32 → CS → Prop} (F : Fx p s m args meth c cX0_layOpen 2 RX0 none D d E A) (hk7 : ∀ (x1 : Int32) (st : CS) (H : Heap) (locs : List Loc) (ls : Array Slot), k7 x1 st → Cx D (wX o ad d) A s st H locs → lv_has ls 2 [(0, .ref o), (1, .int x1)] → W p l e (headSpec (ws_ yX0_layOpen cX0_layOpen 2 none) rmX0_layOpen).room s m args below meth c H locs 0 0 (QV below D d E (wX o ad d) A args s 0 0 post) (F0 m 7 ls [])) : ∀ (x1 : Int32) (st : CS) (H : Heap) (locs : List Loc) (ls : Array Slot), wX0_layOpen_47  post k7 x1 st → Cx D (wX o ad d) A s st H locs → lv_has ls 2 [(0, .ref o), (1, .int x1)] → W p l e (headSpec (ws_ yX0_layOpen cX0_layOpen 2 none) rmX0_layOpen).room s m args below meth c H locs 0 0 (QV below D d E (wX o ad d) A args s 0 0 post) (F0 m 47 ls []) := by
  obtain ⟨hx, hb, hr, hml, hown, hts, hlk, hA, hK, hE⟩ := id F
  intro x1 st H locs ls hw C hl
  unfold wX0_layOpen_47 at hw
  obtain ⟨x1_7, ex1_7⟩ : ∃ y : Int32, y = x1 + 1 := ⟨_, rfl⟩
  have hw := hw x1_7 ex1_7
  refine lv_iinc (v := x1_7) (lv' := [(1, .int x1_7), (0, .ref o)]) hx hb dX0_layOpen_47 hl (k := 1) rfl (by rw [ex1_7]; rfl) (by decide) rfl (fun ls hl => ?_)
  refine lv_goto (tgt := 7) hx hb dX0_layOpen_50 (by decide) ?_
  exact hk7 x1_7 st _ _ _ hw C (lv_sub hl [1, 0] rfl)
set_option maxHeartbeats 4000000 in
theorem kX0_layOpen_7 (hX : ∀ U, E U → EL U) {post : CS → Prop}  (F : Fx p s m args meth c cX0_layOpen 2 RX0 none D d E A) : ∀ (fu : Nat) (x1 : Int32) (st : CS) (H : Heap) (locs : List Loc) (ls : Array Slot), wX0_layOpen_7  post  fu x1 st → Cx D (wX o ad d) A s st H locs → lv_has ls 2 [(0, .ref o), (1, .int x1)] → W p l e (headSpec (ws_ yX0_layOpen cX0_layOpen 2 none) rmX0_layOpen).room s m args below meth c H locs 0 0 (QV below D d E (wX o ad d) A args s 0 0 post) (F0 m 7 ls []) := by
  obtain ⟨hx, hb, hr, hml, hown, hts, hlk, hA, hK, hE⟩ := id F
  intro fu
  induction fu with
  | zero =>
    intro x1 st H locs ls hw
    exact hw.elim
  | succ n ih =>
    have hk7 := ih
    intro x1 st H locs ls hw C hl
    unfold wX0_layOpen_7 at hw
    refine lv_iload_n hx hb dX0_layOpen_7 rfl (lv_at hl 1 rfl) ?_
    refine lv_aload_n hx hb dX0_layOpen_8 rfl (lv_at hl 0 rfl) ?_
    refine x0_g11 F C dX0_layOpen_9 ?_
    refine lv_icmp_ge (tgt := 53) hx hb dX0_layOpen_12 (by decide) (fun c_2 => ?_) (fun c_2 => ?_)
    · have hw := hw.1 c_2
      exact x_vret F C hw dX0_layOpen_53
    · have hw := hw.2 c_2
      refine lv_aload_n hx hb dX0_layOpen_15 rfl (lv_at hl 0 rfl) ?_
      refine x0_g10 F C dX0_layOpen_16 ?_
      refine lv_iload_n hx hb dX0_layOpen_19 rfl (lv_at hl 1 rfl) ?_
      obtain ⟨h_3, a_4, ha_4, hw⟩ := hw
      refine x0_ldL F C h_3 ha_4 dX0_layOpen_20 ?_
      obtain ⟨h_5, hw⟩ := hw
      refine x0_isOpen (rest := []) F C h_5 ⟨Nat.le_of_ble_eq_true rfl, Nat.le_of_ble_eq_true rfl⟩ hl.1 (Nat.le_of_ble_eq_true rfl) dX0_layOpen_21 ⟨Nat.zero_le _, Nat.zero_le _⟩ (fun H locs C => ?_)
      refine lv_if_eq (tgt := 47) hx hb dX0_layOpen_24 (by decide) (fun c_6 => ?_) (fun c_6 => ?_)
      · have hw := hw.1 c_6
        exact kX0_layOpen_47 hX F hk7 x1 st _ _ _ hw C hl
      · have hw := hw.2 c_6
        refine lv_aload_n hx hb dX0_layOpen_27 rfl (lv_at hl 0 rfl) ?_
        refine x0_g30 F C dX0_layOpen_28 ?_
        refine lv_aload_n hx hb dX0_layOpen_31 rfl (lv_at hl 0 rfl) ?_
        refine x0_g31 F C dX0_layOpen_32 ?_
        refine lv_iload_n hx hb dX0_layOpen_35 rfl (lv_at hl 1 rfl) ?_
        obtain ⟨h_8, hw⟩ := hw
        refine x0_st30 F C h_8 dX0_layOpen_36 (fun H locs s_9 es_9 C => ?_)
        have hw := hw s_9 es_9
        refine lv_aload_n hx hb dX0_layOpen_37 rfl (lv_at hl 0 rfl) ?_
        refine lv_dup hx hb dX0_layOpen_38 rfl ?_
        refine x0_g31 F C dX0_layOpen_39 ?_
        refine lv_iconst (v := 1) hx hb dX0_layOpen_42 (by decide) ?_
        refine lv_iadd hx hb dX0_layOpen_43 ?_
        refine x0_p31 F C dX0_layOpen_44 (fun H locs s_10 es_10 C => ?_)
        have hw := hw s_10 es_10
        exact kX0_layOpen_47 hX F hk7 x1 s_10 _ _ _ hw C hl
theorem ctX0_layOpen (hE : Em E) (hX : ∀ U, E U → EL U) {post : CS → Prop} {s0 : CS}  (hw : wpX0_layOpen  post s0 ) : CtV l yX0_layOpen (ws_ yX0_layOpen cX0_layOpen 2 none) rmX0_layOpen D d E (wX o ad d) 0 0 [.ref o] s0 post := by
  refine CtV.of hE (by decide) rfl (Nat.le_of_ble_eq_true rfl) ?_
  intro p e s m below meth c A ls F C hl
  have hl : lv_has ls 2 [(0, .ref o)] := hl
  unfold wpX0_layOpen at hw
  obtain ⟨hx, hb, hr, hml, hown, hts, hlk, hA, hK, -⟩ := id F
  refine lv_aload_n hx hb dX0_layOpen_0 rfl (lv_at hl 0 rfl) ?_
  refine lv_iconst (v := 0) hx hb dX0_layOpen_1 (by decide) ?_
  refine x0_p31 F C dX0_layOpen_2 (fun H locs s_1 es_1 C => ?_)
  have hw := hw s_1 es_1
  refine lv_iconst (v := 0) hx hb dX0_layOpen_5 (by decide) ?_
  refine lv_istore_n (lv' := [(1, .int 0), (0, .ref o)]) hx hb dX0_layOpen_6 rfl hl (by decide) rfl (fun ls hl => ?_)
  obtain ⟨fu, hw⟩ := hw
  exact kX0_layOpen_7 hX F  fu 0 s_1 _ _ _ hw C (lv_sub hl [1, 0] rfl)

abbrev rmX0_open : Room := { frames := 2, cells := 0, slots := 0, locals := 41 }
def wpX0_open  (post : Int32 → CS → Prop) (s0 : CS)  : Prop := (wpX0_layOpen (fun s_1 => (post (sI s_1 31) s_1)) s0 )
theorem ctX0_open (hE : Em E) (hX : ∀ U, E U → EL U) {post : Int32 → CS → Prop} {s0 : CS}  (hw : wpX0_open  post s0 ) : CtI l yX0_open (ws_ yX0_open cX0_open 1 (some .int)) rmX0_open D d E (wX o ad d) 0 0 [.ref o] s0 post := by
  refine CtI.of hE (by decide) rfl (Nat.le_of_ble_eq_true rfl) ?_
  intro p e s m below meth c A ls F C hl
  have hl : lv_has ls 1 [(0, .ref o)] := hl
  unfold wpX0_open at hw
  obtain ⟨hx, hb, hr, hml, hown, hts, hlk, hA, hK, -⟩ := id F
  refine lv_aload_n hx hb dX0_open_0 rfl (lv_at hl 0 rfl) ?_
  refine x_callV (rest := []) (ci := 0) (q := (RX0, TX0, 41)) F C (ctX0_layOpen hE hX hw) (cwV 0 hts (lw_V q636 q638 qs29 q70 q639) rfl rfl rfl (by decide +kernel) ⟨Nat.le_of_ble_eq_true rfl, Nat.le_of_ble_eq_true rfl⟩) rfl rfl rfl hl.1 rfl (Nat.le_of_ble_eq_true rfl) dX0_open_1 ⟨Nat.zero_le _, Nat.zero_le _⟩ (fun s_1 H locs hw C => ?_)
  refine lv_aload_n hx hb dX0_open_4 rfl (lv_at hl 0 rfl) ?_
  refine x0_g31 F C dX0_open_5 ?_
  exact x_iret F C hw dX0_open_8

abbrev rmX0_needOpen : Room := { frames := 4, cells := 0, slots := 0, locals := 86 }
def wpX0_needOpen  (post : Int32 → CS → Prop) (s0 : CS) (p0 : Int32) (p1 : Int32) : Prop := (wpX0_need (fun r_2 s_1 => ((0 ≤ r_2 → (wpX0_layOpen (fun s_4 => (((sI s_4 31) ≤ 8 → (post 0 s_4)) ∧ (¬ (sI s_4 31) ≤ 8 → (post (-6) s_4)))) s_1 )) ∧ (¬ 0 ≤ r_2 → (post r_2 s_1)))) s0 p0 p1)
theorem ctX0_needOpen (hE : Em E) (hX : ∀ U, E U → EL U) {post : Int32 → CS → Prop} {s0 : CS} {p0 p1 : Int32} (hw : wpX0_needOpen  post s0 p0 p1) : CtI l yX0_needOpen (ws_ yX0_needOpen cX0_needOpen 4 (some .int)) rmX0_needOpen D d E (wX o ad d) 0 0 [.ref o, .int p0, .int p1] s0 post := by
  refine CtI.of hE (by decide) rfl (Nat.le_of_ble_eq_true rfl) ?_
  intro p e s m below meth c A ls F C hl
  have hl : lv_has ls 4 [(0, .ref o), (1, .int p0), (2, .int p1)] := hl
  unfold wpX0_needOpen at hw
  obtain ⟨hx, hb, hr, hml, hown, hts, hlk, hA, hK, -⟩ := id F
  refine lv_aload_n hx hb dX0_needOpen_0 rfl (lv_at hl 0 rfl) ?_
  refine lv_iload_n hx hb dX0_needOpen_1 rfl (lv_at hl 1 rfl) ?_
  refine lv_iload_n hx hb dX0_needOpen_2 rfl (lv_at hl 2 rfl) ?_
  refine x_callI (rest := []) (ci := 0) (q := (RX0, TX0, 41)) F C (ctX0_need hE hX hw) (cwV 2 hts (lw_V q508 q510 qs8 q70 q511) rfl rfl rfl (by decide +kernel) ⟨Nat.le_of_ble_eq_true rfl, Nat.le_of_ble_eq_true rfl⟩) rfl rfl rfl hl.1 rfl (Nat.le_of_ble_eq_true rfl) dX0_needOpen_3 ⟨Nat.zero_le _, Nat.zero_le _⟩ (fun r_2 s_1 H locs hw C => ?_)
  refine lv_istore_n (lv' := [(3, .int r_2), (0, .ref o), (1, .int p0), (2, .int p1)]) hx hb dX0_needOpen_6 rfl hl (by decide) rfl (fun ls hl => ?_)
  refine lv_iload_n hx hb dX0_needOpen_7 rfl (lv_at hl 0 rfl) ?_
  refine lv_if_ge (tgt := 13) hx hb dX0_needOpen_8 (by decide) (fun c_3 => ?_) (fun c_3 => ?_)
  · have hw := hw.1 c_3
    refine lv_aload_n hx hb dX0_needOpen_13 rfl (lv_at hl 1 rfl) ?_
    refine x_callV (rest := []) (ci := 0) (q := (RX0, TX0, 41)) F C (ctX0_layOpen hE hX hw) (cwV 0 hts (lw_V q636 q638 qs29 q70 q639) rfl rfl rfl (by decide +kernel) ⟨Nat.le_of_ble_eq_true rfl, Nat.le_of_ble_eq_true rfl⟩) rfl rfl rfl hl.1 rfl (Nat.le_of_ble_eq_true rfl) dX0_needOpen_14 ⟨Nat.zero_le _, Nat.zero_le _⟩ (fun s_4 H locs hw C => ?_)
    refine lv_aload_n hx hb dX0_needOpen_17 rfl (lv_at hl 1 rfl) ?_
    refine x0_g31 F C dX0_needOpen_18 ?_
    refine lv_bipush (v := 8) hx hb dX0_needOpen_21 (by decide) ?_
    refine lv_icmp_le (tgt := 31) hx hb dX0_needOpen_23 (by decide) (fun c_6 => ?_) (fun c_6 => ?_)
    · have hw := hw.1 c_6
      refine lv_iconst (v := 0) hx hb dX0_needOpen_31 (by decide) ?_
      exact x_iret F C hw dX0_needOpen_32
    · have hw := hw.2 c_6
      refine lv_bipush (v := (-6)) hx hb dX0_needOpen_26 (by decide) ?_
      refine lv_goto (tgt := 32) hx hb dX0_needOpen_28 (by decide) ?_
      exact x_iret F C hw dX0_needOpen_32
  · have hw := hw.2 c_3
    refine lv_iload_n hx hb dX0_needOpen_11 rfl (lv_at hl 0 rfl) ?_
    exact x_iret F C hw dX0_needOpen_12

abbrev rmJ6_compare : Room := { frames := 0, cells := 0, slots := 0, locals := 0 }
def wpJ6_compare  (post : Int32 → CS → Prop) (s0 : CS) (p0 : Int64) (p1 : Int64) : Prop := ((p1 ≤ p0 → ((p0 = p1 → (post 0 s0)) ∧ (¬ p0 = p1 → (post 1 s0)))) ∧ (¬ p1 ≤ p0 → (post (-1) s0)))
theorem ctJ6_compare (hE : Em E)  {post : Int32 → CS → Prop} {s0 : CS} {p0 p1 : Int64} (hw : wpJ6_compare  post s0 p0 p1) : CtI l yJ6_compare (ws_ yJ6_compare cJ6_compare 4 (some .int)) rmJ6_compare D d E wf 0 0 [.long p0, .long p1] s0 post := by
  refine CtI.of hE (by decide) rfl (Nat.le_of_ble_eq_true rfl) ?_
  intro p e s m below meth c A ls F C hl
  have hl : lv_has ls 4 [(0, .long p0), (2, .long p1)] := hl
  unfold wpJ6_compare at hw
  obtain ⟨hx, hb, hr, hml, hown, hts, hlk, hA, hK, -⟩ := id F
  refine lv_lload_n hx hb dJ6_compare_0 rfl (lv_at hl 0 rfl) ?_
  refine lv_lload_n hx hb dJ6_compare_1 rfl (lv_at hl 1 rfl) ?_
  refine W.lcmp hx hb dJ6_compare_2 ?_
  refine lv_if_ge (tgt := 10) hx hb dJ6_compare_3 (by decide) (fun c_1 => ?_) (fun c_1 => ?_)
  · have hw := hw.1 ((lg_cmp_ge _ _).mp c_1)
    refine lv_lload_n hx hb dJ6_compare_10 rfl (lv_at hl 0 rfl) ?_
    refine lv_lload_n hx hb dJ6_compare_11 rfl (lv_at hl 1 rfl) ?_
    refine W.lcmp hx hb dJ6_compare_12 ?_
    refine lv_if_ne (tgt := 20) hx hb dJ6_compare_13 (by decide) (fun c_2 => ?_) (fun c_2 => ?_)
    · have hw := hw.2 (fun h9 => c_2 ((lg_cmp_eq _ _).mpr h9))
      refine lv_iconst (v := 1) hx hb dJ6_compare_20 (by decide) ?_
      exact x_iret F C hw dJ6_compare_21
    · have hw := hw.1 ((lg_cmp_eq _ _).mp c_2)
      refine lv_iconst (v := 0) hx hb dJ6_compare_16 (by decide) ?_
      refine lv_goto (tgt := 21) hx hb dJ6_compare_17 (by decide) ?_
      exact x_iret F C hw dJ6_compare_21
  · have hw := hw.2 (fun h9 => c_1 ((lg_cmp_ge _ _).mpr h9))
    refine lv_iconst (v := (-1)) hx hb dJ6_compare_6 (by decide) ?_
    refine lv_goto (tgt := 21) hx hb dJ6_compare_7 (by decide) ?_
    exact x_iret F C hw dJ6_compare_21

abbrev rmX0_compare : Room := { frames := 2, cells := 0, slots := 0, locals := 44 }
def wpX0_compare  (post : Int32 → CS → Prop) (s0 : CS) (p0 : Int64) (p1 : Int64) (p2 : Int64) (p3 : Int64) : Prop := (wpX0_gcd (fun r_2 s_1 => (¬ r_2 = 0 ∧ (¬ r_2 = 0 ∧ (wpJ6_compare (fun r_6 s_5 => (post r_6 s_5)) s_1 (p0 * (p3 / r_2)) (p2 * (p1 / r_2)))))) s0 p1 p3)
theorem ctX0_compare (hE : Em E)  {post : Int32 → CS → Prop} {s0 : CS} {p0 p1 p2 p3 : Int64} (hw : wpX0_compare  post s0 p0 p1 p2 p3) : CtI l yX0_compare (ws_ yX0_compare cX0_compare 10 (some .int)) rmX0_compare D d E wf 0 0 [.long p0, .long p1, .long p2, .long p3] s0 post := by
  refine CtI.of hE (by decide) rfl (Nat.le_of_ble_eq_true rfl) ?_
  intro p e s m below meth c A ls F C hl
  have hl : lv_has ls 10 [(0, .long p0), (2, .long p1), (4, .long p2), (6, .long p3)] := hl
  unfold wpX0_compare at hw
  obtain ⟨hx, hb, hr, hml, hown, hts, hlk, hA, hK, -⟩ := id F
  refine lv_lload_n hx hb dX0_compare_0 rfl (lv_at hl 1 rfl) ?_
  refine lv_lload hx hb dX0_compare_1 (lv_at hl 3 rfl) ?_
  refine x_callSL (rest := []) F C (ctX0_gcd hE hw) (va_cwS 2 hts (lw_S q595 q596 q70 q597) rfl rfl rfl (by decide +kernel) ⟨Nat.le_of_ble_eq_true rfl, Nat.le_of_ble_eq_true rfl⟩) rfl hl.1 rfl (Nat.le_of_ble_eq_true rfl) dX0_compare_3 ⟨Nat.zero_le _, Nat.zero_le _⟩ (fun r_2 s_1 H locs hw C => ?_)
  refine lv_lstore (lv' := [(8, .long r_2), (0, .long p0), (2, .long p1), (4, .long p2), (6, .long p3)]) hx hb dX0_compare_6 hl (by decide) rfl (fun ls hl => ?_)
  refine lv_lload_n hx hb dX0_compare_8 rfl (lv_at hl 1 rfl) ?_
  refine lv_lload hx hb dX0_compare_9 (lv_at hl 4 rfl) ?_
  refine lv_lload hx hb dX0_compare_11 (lv_at hl 0 rfl) ?_
  obtain ⟨h_3, hw⟩ := hw
  refine lv_ldiv hx hb dX0_compare_13 h_3 ?_
  refine lv_lmul hx hb dX0_compare_14 ?_
  refine lv_lload hx hb dX0_compare_15 (lv_at hl 3 rfl) ?_
  refine lv_lload_n hx hb dX0_compare_17 rfl (lv_at hl 2 rfl) ?_
  refine lv_lload hx hb dX0_compare_18 (lv_at hl 0 rfl) ?_
  obtain ⟨h_4, hw⟩ := hw
  refine lv_ldiv hx hb dX0_compare_20 h_4 ?_
  refine lv_lmul hx hb dX0_compare_21 ?_
  refine x_callSI (rest := []) F C (ctJ6_compare hE hw) (va_cwS 2 hts (lw_S q671 q672 q82 q673) rfl rfl rfl (by decide +kernel) ⟨Nat.le_of_ble_eq_true rfl, Nat.le_of_ble_eq_true rfl⟩) rfl hl.1 rfl (Nat.le_of_ble_eq_true rfl) dX0_compare_22 ⟨Nat.zero_le _, Nat.zero_le _⟩ (fun r_6 s_5 H locs hw C => ?_)
  exact x_iret F C hw dX0_compare_25

abbrev rmX0_keep : Room := { frames := 3, cells := 0, slots := 0, locals := 73 }
def wX0_keep_124  (post : CS → Prop) (k2 : Int32 → Int32 → CS → Prop) (x1 : Int32) (x2 : Int32) (st : CS) : Prop := (∀ x2_16 : Int32, x2_16 = x2 + 1 → (k2 x1 x2_16 st))
def wX0_keep_100  (post : CS → Prop) (k2 : Int32 → Int32 → CS → Prop) (x1 : Int32) (x2 : Int32) (st : CS) : Prop := (vp_in x2 25 ∧ (vp_in x2 25 ∧ ∀ s_12 : CS, s_12 = uM st 34 x2.toNatClampNeg (sM st 22 x2.toNatClampNeg) → (vp_in x2 25 ∧ (vp_in x2 25 ∧ ∀ s_15 : CS, s_15 = uM s_12 35 x2.toNatClampNeg (sM s_12 23 x2.toNatClampNeg) → (wX0_keep_124  post k2 x1 x2 s_15)))))
def wX0_keep_66  (post : CS → Prop) (k2 : Int32 → Int32 → CS → Prop) (x1 : Int32) (x2 : Int32) (st : CS) : Prop := ((x1 = 0 → (wX0_keep_100  post k2 x1 x2 st)) ∧ (¬ x1 = 0 → (vp_in x2 25 ∧ (vp_in x2 25 ∧ (vp_in x2 25 ∧ (vp_in x2 25 ∧ (wpX0_compare (fun r_22 s_21 => ((r_22 ≤ 0 → (wX0_keep_124  post k2 x1 x2 s_21)) ∧ (¬ r_22 ≤ 0 → (wX0_keep_100  post k2 x1 x2 s_21)))) st (sM st 22 x2.toNatClampNeg) (sM st 23 x2.toNatClampNeg) (sM st 34 x2.toNatClampNeg) (sM st 35 x2.toNatClampNeg))))))))
def wX0_keep_42  (post : CS → Prop) (k2 : Int32 → Int32 → CS → Prop) (x1 : Int32) (x2 : Int32) (st : CS) : Prop := (vp_in x2 25 ∧ (vp_in x2 25 ∧ ∀ s_5 : CS, s_5 = uM st 32 x2.toNatClampNeg (sM st 22 x2.toNatClampNeg) → (vp_in x2 25 ∧ (vp_in x2 25 ∧ ∀ s_8 : CS, s_8 = uM s_5 33 x2.toNatClampNeg (sM s_5 23 x2.toNatClampNeg) → (wX0_keep_66  post k2 x1 x2 s_8)))))
def wX0_keep_2  (post : CS → Prop)  : Nat → Int32 → Int32 → CS → Prop
  | 0 => fun _ _ _ => False
  | n + 1 => fun x1 x2 st => ((24 < x2 → (post st)) ∧ (¬ 24 < x2 → ((x1 = 0 → (wX0_keep_42  post (wX0_keep_2  post  n) x1 x2 st)) ∧ (¬ x1 = 0 → (vp_in x2 25 ∧ (vp_in x2 25 ∧ (vp_in x2 25 ∧ (vp_in x2 25 ∧ (wpX0_compare (fun r_29 s_28 => ((0 ≤ r_29 → (wX0_keep_66  post (wX0_keep_2  post  n) x1 x2 s_28)) ∧ (¬ 0 ≤ r_29 → (wX0_keep_42  post (wX0_keep_2  post  n) x1 x2 s_28)))) st (sM st 22 x2.toNatClampNeg) (sM st 23 x2.toNatClampNeg) (sM st 32 x2.toNatClampNeg) (sM st 33 x2.toNatClampNeg))))))))))
def wpX0_keep  (post : CS → Prop) (s0 : CS) (p0 : Int32) : Prop := (∃ fu : Nat, wX0_keep_2  post  fu p0 0 s0)
set_option maxHeartbeats 4000000 in
theorem kX0_keep_124 (hX : ∀ U, E U → EL U) {post : CS → Prop} {k2 : Int32 → Int32 → CS → Prop} (F : Fx p s m args meth c cX0_keep 3 RX0 none D d E A) (hk2 : ∀ (x1 : Int32) (x2 : Int32) (st : CS) (H : Heap) (locs : List Loc) (ls : Array Slot), k2 x1 x2 st → Cx D (wX o ad d) A s st H locs → lv_has ls 3 [(0, .ref o), (1, .int x1), (2, .int x2)] → W p l e (headSpec (ws_ yX0_keep cX0_keep 3 none) rmX0_keep).room s m args below meth c H locs 0 0 (QV below D d E (wX o ad d) A args s 0 0 post) (F0 m 2 ls [])) : ∀ (x1 : Int32) (x2 : Int32) (st : CS) (H : Heap) (locs : List Loc) (ls : Array Slot), wX0_keep_124  post k2 x1 x2 st → Cx D (wX o ad d) A s st H locs → lv_has ls 3 [(0, .ref o), (1, .int x1), (2, .int x2)] → W p l e (headSpec (ws_ yX0_keep cX0_keep 3 none) rmX0_keep).room s m args below meth c H locs 0 0 (QV below D d E (wX o ad d) A args s 0 0 post) (F0 m 124 ls []) := by
  obtain ⟨hx, hb, hr, hml, hown, hts, hlk, hA, hK, hE⟩ := id F
  intro x1 x2 st H locs ls hw C hl
  unfold wX0_keep_124 at hw
  obtain ⟨x2_16, ex2_16⟩ : ∃ y : Int32, y = x2 + 1 := ⟨_, rfl⟩
  have hw := hw x2_16 ex2_16
  refine lv_iinc (v := x2_16) (lv' := [(2, .int x2_16), (0, .ref o), (1, .int x1)]) hx hb dX0_keep_124 hl (k := 2) rfl (by rw [ex2_16]; rfl) (by decide) rfl (fun ls hl => ?_)
  refine lv_goto (tgt := 2) hx hb dX0_keep_127 (by decide) ?_
  exact hk2 x1 x2_16 st _ _ _ hw C (lv_sub hl [1, 2, 0] rfl)
set_option maxHeartbeats 4000000 in
theorem kX0_keep_100 (hX : ∀ U, E U → EL U) {post : CS → Prop} {k2 : Int32 → Int32 → CS → Prop} (F : Fx p s m args meth c cX0_keep 3 RX0 none D d E A) (hk2 : ∀ (x1 : Int32) (x2 : Int32) (st : CS) (H : Heap) (locs : List Loc) (ls : Array Slot), k2 x1 x2 st → Cx D (wX o ad d) A s st H locs → lv_has ls 3 [(0, .ref o), (1, .int x1), (2, .int x2)] → W p l e (headSpec (ws_ yX0_keep cX0_keep 3 none) rmX0_keep).room s m args below meth c H locs 0 0 (QV below D d E (wX o ad d) A args s 0 0 post) (F0 m 2 ls [])) : ∀ (x1 : Int32) (x2 : Int32) (st : CS) (H : Heap) (locs : List Loc) (ls : Array Slot), wX0_keep_100  post k2 x1 x2 st → Cx D (wX o ad d) A s st H locs → lv_has ls 3 [(0, .ref o), (1, .int x1), (2, .int x2)] → W p l e (headSpec (ws_ yX0_keep cX0_keep 3 none) rmX0_keep).room s m args below meth c H locs 0 0 (QV below D d E (wX o ad d) A args s 0 0 post) (F0 m 100 ls []) := by
  obtain ⟨hx, hb, hr, hml, hown, hts, hlk, hA, hK, hE⟩ := id F
  intro x1 x2 st H locs ls hw C hl
  unfold wX0_keep_100 at hw
  refine lv_aload_n hx hb dX0_keep_100 rfl (lv_at hl 0 rfl) ?_
  refine x0_g34 F C dX0_keep_101 ?_
  refine lv_iload_n hx hb dX0_keep_104 rfl (lv_at hl 2 rfl) ?_
  refine lv_aload_n hx hb dX0_keep_105 rfl (lv_at hl 0 rfl) ?_
  refine x0_g22 F C dX0_keep_106 ?_
  refine lv_iload_n hx hb dX0_keep_109 rfl (lv_at hl 2 rfl) ?_
  obtain ⟨h_10, hw⟩ := hw
  refine x0_ld22 F C h_10 dX0_keep_110 ?_
  obtain ⟨h_11, hw⟩ := hw
  refine x0_st34 F C h_11 dX0_keep_111 (fun H locs s_12 es_12 C => ?_)
  have hw := hw s_12 es_12
  refine lv_aload_n hx hb dX0_keep_112 rfl (lv_at hl 0 rfl) ?_
  refine x0_g35 F C dX0_keep_113 ?_
  refine lv_iload_n hx hb dX0_keep_116 rfl (lv_at hl 2 rfl) ?_
  refine lv_aload_n hx hb dX0_keep_117 rfl (lv_at hl 0 rfl) ?_
  refine x0_g23 F C dX0_keep_118 ?_
  refine lv_iload_n hx hb dX0_keep_121 rfl (lv_at hl 2 rfl) ?_
  obtain ⟨h_13, hw⟩ := hw
  refine x0_ld23 F C h_13 dX0_keep_122 ?_
  obtain ⟨h_14, hw⟩ := hw
  refine x0_st35 F C h_14 dX0_keep_123 (fun H locs s_15 es_15 C => ?_)
  have hw := hw s_15 es_15
  exact kX0_keep_124 hX F hk2 x1 x2 s_15 _ _ _ hw C hl
set_option maxHeartbeats 4000000 in
theorem kX0_keep_66 (hX : ∀ U, E U → EL U) {post : CS → Prop} {k2 : Int32 → Int32 → CS → Prop} (F : Fx p s m args meth c cX0_keep 3 RX0 none D d E A) (hk2 : ∀ (x1 : Int32) (x2 : Int32) (st : CS) (H : Heap) (locs : List Loc) (ls : Array Slot), k2 x1 x2 st → Cx D (wX o ad d) A s st H locs → lv_has ls 3 [(0, .ref o), (1, .int x1), (2, .int x2)] → W p l e (headSpec (ws_ yX0_keep cX0_keep 3 none) rmX0_keep).room s m args below meth c H locs 0 0 (QV below D d E (wX o ad d) A args s 0 0 post) (F0 m 2 ls [])) : ∀ (x1 : Int32) (x2 : Int32) (st : CS) (H : Heap) (locs : List Loc) (ls : Array Slot), wX0_keep_66  post k2 x1 x2 st → Cx D (wX o ad d) A s st H locs → lv_has ls 3 [(0, .ref o), (1, .int x1), (2, .int x2)] → W p l e (headSpec (ws_ yX0_keep cX0_keep 3 none) rmX0_keep).room s m args below meth c H locs 0 0 (QV below D d E (wX o ad d) A args s 0 0 post) (F0 m 66 ls []) := by
  obtain ⟨hx, hb, hr, hml, hown, hts, hlk, hA, hK, hE⟩ := id F
  intro x1 x2 st H locs ls hw C hl
  unfold wX0_keep_66 at hw
  refine lv_iload_n hx hb dX0_keep_66 rfl (lv_at hl 1 rfl) ?_
  refine lv_if_eq (tgt := 100) hx hb dX0_keep_67 (by decide) (fun c_9 => ?_) (fun c_9 => ?_)
  · have hw := hw.1 c_9
    exact kX0_keep_100 hX F hk2 x1 x2 st _ _ _ hw C hl
  · have hw := hw.2 c_9
    refine lv_aload_n hx hb dX0_keep_70 rfl (lv_at hl 0 rfl) ?_
    refine x0_g22 F C dX0_keep_71 ?_
    refine lv_iload_n hx hb dX0_keep_74 rfl (lv_at hl 2 rfl) ?_
    obtain ⟨h_17, hw⟩ := hw
    refine x0_ld22 F C h_17 dX0_keep_75 ?_
    refine lv_aload_n hx hb dX0_keep_76 rfl (lv_at hl 0 rfl) ?_
    refine x0_g23 F C dX0_keep_77 ?_
    refine lv_iload_n hx hb dX0_keep_80 rfl (lv_at hl 2 rfl) ?_
    obtain ⟨h_18, hw⟩ := hw
    refine x0_ld23 F C h_18 dX0_keep_81 ?_
    refine lv_aload_n hx hb dX0_keep_82 rfl (lv_at hl 0 rfl) ?_
    refine x0_g34 F C dX0_keep_83 ?_
    refine lv_iload_n hx hb dX0_keep_86 rfl (lv_at hl 2 rfl) ?_
    obtain ⟨h_19, hw⟩ := hw
    refine x0_ld34 F C h_19 dX0_keep_87 ?_
    refine lv_aload_n hx hb dX0_keep_88 rfl (lv_at hl 0 rfl) ?_
    refine x0_g35 F C dX0_keep_89 ?_
    refine lv_iload_n hx hb dX0_keep_92 rfl (lv_at hl 2 rfl) ?_
    obtain ⟨h_20, hw⟩ := hw
    refine x0_ld35 F C h_20 dX0_keep_93 ?_
    refine x_callSI (rest := []) F C (ctX0_compare hE hw) (va_cwS 4 hts (lw_S q668 q669 q70 q670) rfl rfl rfl (by decide +kernel) ⟨Nat.le_of_ble_eq_true rfl, Nat.le_of_ble_eq_true rfl⟩) rfl hl.1 rfl (Nat.le_of_ble_eq_true rfl) dX0_keep_94 ⟨Nat.zero_le _, Nat.zero_le _⟩ (fun r_22 s_21 H locs hw C => ?_)
    refine lv_if_le (tgt := 124) hx hb dX0_keep_97 (by decide) (fun c_23 => ?_) (fun c_23 => ?_)
    · have hw := hw.1 c_23
      exact kX0_keep_124 hX F hk2 x1 x2 s_21 _ _ _ hw C hl
    · have hw := hw.2 c_23
      exact kX0_keep_100 hX F hk2 x1 x2 s_21 _ _ _ hw C hl
set_option maxHeartbeats 4000000 in
theorem kX0_keep_42 (hX : ∀ U, E U → EL U) {post : CS → Prop} {k2 : Int32 → Int32 → CS → Prop} (F : Fx p s m args meth c cX0_keep 3 RX0 none D d E A) (hk2 : ∀ (x1 : Int32) (x2 : Int32) (st : CS) (H : Heap) (locs : List Loc) (ls : Array Slot), k2 x1 x2 st → Cx D (wX o ad d) A s st H locs → lv_has ls 3 [(0, .ref o), (1, .int x1), (2, .int x2)] → W p l e (headSpec (ws_ yX0_keep cX0_keep 3 none) rmX0_keep).room s m args below meth c H locs 0 0 (QV below D d E (wX o ad d) A args s 0 0 post) (F0 m 2 ls [])) : ∀ (x1 : Int32) (x2 : Int32) (st : CS) (H : Heap) (locs : List Loc) (ls : Array Slot), wX0_keep_42  post k2 x1 x2 st → Cx D (wX o ad d) A s st H locs → lv_has ls 3 [(0, .ref o), (1, .int x1), (2, .int x2)] → W p l e (headSpec (ws_ yX0_keep cX0_keep 3 none) rmX0_keep).room s m args below meth c H locs 0 0 (QV below D d E (wX o ad d) A args s 0 0 post) (F0 m 42 ls []) := by
  obtain ⟨hx, hb, hr, hml, hown, hts, hlk, hA, hK, hE⟩ := id F
  intro x1 x2 st H locs ls hw C hl
  unfold wX0_keep_42 at hw
  refine lv_aload_n hx hb dX0_keep_42 rfl (lv_at hl 0 rfl) ?_
  refine x0_g32 F C dX0_keep_43 ?_
  refine lv_iload_n hx hb dX0_keep_46 rfl (lv_at hl 2 rfl) ?_
  refine lv_aload_n hx hb dX0_keep_47 rfl (lv_at hl 0 rfl) ?_
  refine x0_g22 F C dX0_keep_48 ?_
  refine lv_iload_n hx hb dX0_keep_51 rfl (lv_at hl 2 rfl) ?_
  obtain ⟨h_3, hw⟩ := hw
  refine x0_ld22 F C h_3 dX0_keep_52 ?_
  obtain ⟨h_4, hw⟩ := hw
  refine x0_st32 F C h_4 dX0_keep_53 (fun H locs s_5 es_5 C => ?_)
  have hw := hw s_5 es_5
  refine lv_aload_n hx hb dX0_keep_54 rfl (lv_at hl 0 rfl) ?_
  refine x0_g33 F C dX0_keep_55 ?_
  refine lv_iload_n hx hb dX0_keep_58 rfl (lv_at hl 2 rfl) ?_
  refine lv_aload_n hx hb dX0_keep_59 rfl (lv_at hl 0 rfl) ?_
  refine x0_g23 F C dX0_keep_60 ?_
  refine lv_iload_n hx hb dX0_keep_63 rfl (lv_at hl 2 rfl) ?_
  obtain ⟨h_6, hw⟩ := hw
  refine x0_ld23 F C h_6 dX0_keep_64 ?_
  obtain ⟨h_7, hw⟩ := hw
  refine x0_st33 F C h_7 dX0_keep_65 (fun H locs s_8 es_8 C => ?_)
  have hw := hw s_8 es_8
  exact kX0_keep_66 hX F hk2 x1 x2 s_8 _ _ _ hw C hl
set_option maxHeartbeats 4000000 in
theorem kX0_keep_2 (hX : ∀ U, E U → EL U) {post : CS → Prop}  (F : Fx p s m args meth c cX0_keep 3 RX0 none D d E A) : ∀ (fu : Nat) (x1 : Int32) (x2 : Int32) (st : CS) (H : Heap) (locs : List Loc) (ls : Array Slot), wX0_keep_2  post  fu x1 x2 st → Cx D (wX o ad d) A s st H locs → lv_has ls 3 [(0, .ref o), (1, .int x1), (2, .int x2)] → W p l e (headSpec (ws_ yX0_keep cX0_keep 3 none) rmX0_keep).room s m args below meth c H locs 0 0 (QV below D d E (wX o ad d) A args s 0 0 post) (F0 m 2 ls []) := by
  obtain ⟨hx, hb, hr, hml, hown, hts, hlk, hA, hK, hE⟩ := id F
  intro fu
  induction fu with
  | zero =>
    intro x1 x2 st H locs ls hw
    exact hw.elim
  | succ n ih =>
    have hk2 := ih
    intro x1 x2 st H locs ls hw C hl
    unfold wX0_keep_2 at hw
    refine lv_iload_n hx hb dX0_keep_2 rfl (lv_at hl 2 rfl) ?_
    refine lv_bipush (v := 24) hx hb dX0_keep_3 (by decide) ?_
    refine lv_icmp_gt (tgt := 130) hx hb dX0_keep_5 (by decide) (fun c_1 => ?_) (fun c_1 => ?_)
    · have hw := hw.1 c_1
      exact x_vret F C hw dX0_keep_130
    · have hw := hw.2 c_1
      refine lv_iload_n hx hb dX0_keep_8 rfl (lv_at hl 1 rfl) ?_
      refine lv_if_eq (tgt := 42) hx hb dX0_keep_9 (by decide) (fun c_2 => ?_) (fun c_2 => ?_)
      · have hw := hw.1 c_2
        exact kX0_keep_42 hX F hk2 x1 x2 st _ _ _ hw C hl
      · have hw := hw.2 c_2
        refine lv_aload_n hx hb dX0_keep_12 rfl (lv_at hl 0 rfl) ?_
        refine x0_g22 F C dX0_keep_13 ?_
        refine lv_iload_n hx hb dX0_keep_16 rfl (lv_at hl 2 rfl) ?_
        obtain ⟨h_24, hw⟩ := hw
        refine x0_ld22 F C h_24 dX0_keep_17 ?_
        refine lv_aload_n hx hb dX0_keep_18 rfl (lv_at hl 0 rfl) ?_
        refine x0_g23 F C dX0_keep_19 ?_
        refine lv_iload_n hx hb dX0_keep_22 rfl (lv_at hl 2 rfl) ?_
        obtain ⟨h_25, hw⟩ := hw
        refine x0_ld23 F C h_25 dX0_keep_23 ?_
        refine lv_aload_n hx hb dX0_keep_24 rfl (lv_at hl 0 rfl) ?_
        refine x0_g32 F C dX0_keep_25 ?_
        refine lv_iload_n hx hb dX0_keep_28 rfl (lv_at hl 2 rfl) ?_
        obtain ⟨h_26, hw⟩ := hw
        refine x0_ld32 F C h_26 dX0_keep_29 ?_
        refine lv_aload_n hx hb dX0_keep_30 rfl (lv_at hl 0 rfl) ?_
        refine x0_g33 F C dX0_keep_31 ?_
        refine lv_iload_n hx hb dX0_keep_34 rfl (lv_at hl 2 rfl) ?_
        obtain ⟨h_27, hw⟩ := hw
        refine x0_ld33 F C h_27 dX0_keep_35 ?_
        refine x_callSI (rest := []) F C (ctX0_compare hE hw) (va_cwS 4 hts (lw_S q668 q669 q70 q670) rfl rfl rfl (by decide +kernel) ⟨Nat.le_of_ble_eq_true rfl, Nat.le_of_ble_eq_true rfl⟩) rfl hl.1 rfl (Nat.le_of_ble_eq_true rfl) dX0_keep_36 ⟨Nat.zero_le _, Nat.zero_le _⟩ (fun r_29 s_28 H locs hw C => ?_)
        refine lv_if_ge (tgt := 66) hx hb dX0_keep_39 (by decide) (fun c_30 => ?_) (fun c_30 => ?_)
        · have hw := hw.1 c_30
          exact kX0_keep_66 hX F hk2 x1 x2 s_28 _ _ _ hw C hl
        · have hw := hw.2 c_30
          exact kX0_keep_42 hX F hk2 x1 x2 s_28 _ _ _ hw C hl
theorem ctX0_keep (hE : Em E) (hX : ∀ U, E U → EL U) {post : CS → Prop} {s0 : CS} {p0 : Int32} (hw : wpX0_keep  post s0 p0) : CtV l yX0_keep (ws_ yX0_keep cX0_keep 3 none) rmX0_keep D d E (wX o ad d) 0 0 [.ref o, .int p0] s0 post := by
  refine CtV.of hE (by decide) rfl (Nat.le_of_ble_eq_true rfl) ?_
  intro p e s m below meth c A ls F C hl
  have hl : lv_has ls 3 [(0, .ref o), (1, .int p0)] := hl
  unfold wpX0_keep at hw
  obtain ⟨hx, hb, hr, hml, hown, hts, hlk, hA, hK, -⟩ := id F
  refine lv_iconst (v := 0) hx hb dX0_keep_0 (by decide) ?_
  refine lv_istore_n (lv' := [(2, .int 0), (0, .ref o), (1, .int p0)]) hx hb dX0_keep_1 rfl hl (by decide) rfl (fun ls hl => ?_)
  obtain ⟨fu, hw⟩ := hw
  exact kX0_keep_2 hX F  fu p0 0 s0 _ _ _ hw C (lv_sub hl [1, 2, 0] rfl)

abbrev rmX0_layBounds : Room := { frames := 54, cells := 0, slots := 0, locals := 1202 }
def wX0_layBounds_85  (post : CS → Prop) (k6 : Int32 → Int32 → Int32 → Int32 → Int32 → CS → Prop) (x1 : Int32) (x2 : Int32) (x3 : Int32) (x4 : Int32) (x5 : Int32) (st : CS) : Prop := (∀ x5_3 : Int32, x5_3 = x5 + 1 → (k6 x1 x2 x3 x4 x5_3 st))
def wX0_layBounds_64  (post : CS → Prop) (k6 : Int32 → Int32 → Int32 → Int32 → Int32 → CS → Prop) (k28 : Int32 → Int32 → Int32 → Int32 → Int32 → Int32 → CS → Prop) (x1 : Int32) (x2 : Int32) (x3 : Int32) (x4 : Int32) (x5 : Int32) (x6 : Int32) (y0 : Int32) (y1 : Int32) (st : CS) : Prop := (vp_in y1 40 ∧ ∀ s_12 : CS, s_12 = uA st 18 y1.toNatClampNeg (vp_nar .boolean y0) → (∀ x6_13 : Int32, x6_13 = x6 + 1 → (k28 x1 x2 x3 x4 x5 x6_13 s_12)))
def wX0_layBounds_28  (post : CS → Prop) (k6 : Int32 → Int32 → Int32 → Int32 → Int32 → CS → Prop) : Nat → Int32 → Int32 → Int32 → Int32 → Int32 → Int32 → CS → Prop
  | 0 => fun _ _ _ _ _ _ _ => False
  | n + 1 => fun x1 x2 x3 x4 x5 x6 st => (((sI st 31) ≤ x6 → (wpX0_share_2 (fun s_5 => (wpX0_keep (fun s_7 => (wX0_layBounds_85  post k6 x1 x2 x3 1 x5 s_7)) s_5 x4)) st x1)) ∧ (¬ (sI st 31) ≤ x6 → (vp_in x6 40 ∧ ((((x5 >>> (x6 &&& 31)) &&& 1) = 1 → (wX0_layBounds_64  post k6 (wX0_layBounds_28  post k6 n) x1 x2 x3 x4 x5 x6 1 (sA st 30 x6.toNatClampNeg) st)) ∧ (¬ ((x5 >>> (x6 &&& 31)) &&& 1) = 1 → (wX0_layBounds_64  post k6 (wX0_layBounds_28  post k6 n) x1 x2 x3 x4 x5 x6 0 (sA st 30 x6.toNatClampNeg) st))))))
def wX0_layBounds_6  (post : CS → Prop)  : Nat → Int32 → Int32 → Int32 → Int32 → Int32 → CS → Prop
  | 0 => fun _ _ _ _ _ _ => False
  | n + 1 => fun x1 x2 x3 x4 x5 st => (((1 <<< ((sI st 31) &&& 31)) ≤ x5 → (post st)) ∧ (¬ (1 <<< ((sI st 31) &&& 31)) ≤ x5 → (((x5 &&& x2) = x3 → (∃ fu : Nat, wX0_layBounds_28  post (wX0_layBounds_6  post  n) fu x1 x2 x3 x4 x5 0 st)) ∧ (¬ (x5 &&& x2) = x3 → (wX0_layBounds_85  post (wX0_layBounds_6  post  n) x1 x2 x3 x4 x5 st)))))
def wpX0_layBounds  (post : CS → Prop) (s0 : CS) (p0 : Int32) (p1 : Int32) (p2 : Int32) : Prop := (∃ fu : Nat, wX0_layBounds_6  post  fu p0 p1 p2 0 0 s0)
set_option maxHeartbeats 4000000 in
theorem kX0_layBounds_85 (hX : ∀ U, E U → EL U) {post : CS → Prop} {k6 : Int32 → Int32 → Int32 → Int32 → Int32 → CS → Prop} (F : Fx p s m args meth c cX0_layBounds 7 RX0 none D d E A) (hk6 : ∀ (x1 : Int32) (x2 : Int32) (x3 : Int32) (x4 : Int32) (x5 : Int32) (st : CS) (H : Heap) (locs : List Loc) (ls : Array Slot), k6 x1 x2 x3 x4 x5 st → Cx D (wX o ad d) A s st H locs → lv_has ls 7 [(0, .ref o), (1, .int x1), (2, .int x2), (3, .int x3), (4, .int x4), (5, .int x5)] → W p l e (headSpec (ws_ yX0_layBounds cX0_layBounds 7 none) rmX0_layBounds).room s m args below meth c H locs 0 0 (QV below D d E (wX o ad d) A args s 0 0 post) (F0 m 6 ls [])) : ∀ (x1 : Int32) (x2 : Int32) (x3 : Int32) (x4 : Int32) (x5 : Int32) (st : CS) (H : Heap) (locs : List Loc) (ls : Array Slot), wX0_layBounds_85  post k6 x1 x2 x3 x4 x5 st → Cx D (wX o ad d) A s st H locs → lv_has ls 7 [(0, .ref o), (1, .int x1), (2, .int x2), (3, .int x3), (4, .int x4), (5, .int x5)] → W p l e (headSpec (ws_ yX0_layBounds cX0_layBounds 7 none) rmX0_layBounds).room s m args below meth c H locs 0 0 (QV below D d E (wX o ad d) A args s 0 0 post) (F0 m 85 ls []) := by
  obtain ⟨hx, hb, hr, hml, hown, hts, hlk, hA, hK, hE⟩ := id F
  intro x1 x2 x3 x4 x5 st H locs ls hw C hl
  unfold wX0_layBounds_85 at hw
  obtain ⟨x5_3, ex5_3⟩ : ∃ y : Int32, y = x5 + 1 := ⟨_, rfl⟩
  have hw := hw x5_3 ex5_3
  refine lv_iinc (v := x5_3) (lv' := [(5, .int x5_3), (0, .ref o), (1, .int x1), (2, .int x2), (3, .int x3), (4, .int x4)]) hx hb dX0_layBounds_85 hl (k := 5) rfl (by rw [ex5_3]; rfl) (by decide) rfl (fun ls hl => ?_)
  refine lv_goto (tgt := 6) hx hb dX0_layBounds_88 (by decide) ?_
  exact hk6 x1 x2 x3 x4 x5_3 st _ _ _ hw C (lv_sub hl [1, 2, 3, 4, 5, 0] rfl)
set_option maxHeartbeats 4000000 in
theorem kX0_layBounds_64 (hX : ∀ U, E U → EL U) {post : CS → Prop} {k6 : Int32 → Int32 → Int32 → Int32 → Int32 → CS → Prop} {k28 : Int32 → Int32 → Int32 → Int32 → Int32 → Int32 → CS → Prop} (F : Fx p s m args meth c cX0_layBounds 7 RX0 none D d E A) (hk6 : ∀ (x1 : Int32) (x2 : Int32) (x3 : Int32) (x4 : Int32) (x5 : Int32) (st : CS) (H : Heap) (locs : List Loc) (ls : Array Slot), k6 x1 x2 x3 x4 x5 st → Cx D (wX o ad d) A s st H locs → lv_has ls 7 [(0, .ref o), (1, .int x1), (2, .int x2), (3, .int x3), (4, .int x4), (5, .int x5)] → W p l e (headSpec (ws_ yX0_layBounds cX0_layBounds 7 none) rmX0_layBounds).room s m args below meth c H locs 0 0 (QV below D d E (wX o ad d) A args s 0 0 post) (F0 m 6 ls [])) (hk28 : ∀ (x1 : Int32) (x2 : Int32) (x3 : Int32) (x4 : Int32) (x5 : Int32) (x6 : Int32) (st : CS) (H : Heap) (locs : List Loc) (ls : Array Slot), k28 x1 x2 x3 x4 x5 x6 st → Cx D (wX o ad d) A s st H locs → lv_has ls 7 [(0, .ref o), (1, .int x1), (2, .int x2), (3, .int x3), (4, .int x4), (5, .int x5), (6, .int x6)] → W p l e (headSpec (ws_ yX0_layBounds cX0_layBounds 7 none) rmX0_layBounds).room s m args below meth c H locs 0 0 (QV below D d E (wX o ad d) A args s 0 0 post) (F0 m 28 ls [])) : ∀ (x1 : Int32) (x2 : Int32) (x3 : Int32) (x4 : Int32) (x5 : Int32) (x6 : Int32) (y0 : Int32) (y1 : Int32) (st : CS) (H : Heap) (locs : List Loc) (ls : Array Slot), wX0_layBounds_64  post k6 k28 x1 x2 x3 x4 x5 x6 y0 y1 st → Cx D (wX o ad d) A s st H locs → lv_has ls 7 [(0, .ref o), (1, .int x1), (2, .int x2), (3, .int x3), (4, .int x4), (5, .int x5), (6, .int x6)] → W p l e (headSpec (ws_ yX0_layBounds cX0_layBounds 7 none) rmX0_layBounds).room s m args below meth c H locs 0 0 (QV below D d E (wX o ad d) A args s 0 0 post) (F0 m 64 ls [.int y0, .int y1, .ref (ad 18)]) := by
  obtain ⟨hx, hb, hr, hml, hown, hts, hlk, hA, hK, hE⟩ := id F
  intro x1 x2 x3 x4 x5 x6 y0 y1 st H locs ls hw C hl
  unfold wX0_layBounds_64 at hw
  obtain ⟨h_11, hw⟩ := hw
  refine x0_st18 F C h_11 dX0_layBounds_64 (fun H locs s_12 es_12 C => ?_)
  have hw := hw s_12 es_12
  obtain ⟨x6_13, ex6_13⟩ : ∃ y : Int32, y = x6 + 1 := ⟨_, rfl⟩
  have hw := hw x6_13 ex6_13
  refine lv_iinc (v := x6_13) (lv' := [(6, .int x6_13), (0, .ref o), (1, .int x1), (2, .int x2), (3, .int x3), (4, .int x4), (5, .int x5)]) hx hb dX0_layBounds_65 hl (k := 6) rfl (by rw [ex6_13]; rfl) (by decide) rfl (fun ls hl => ?_)
  refine lv_goto (tgt := 28) hx hb dX0_layBounds_68 (by decide) ?_
  exact hk28 x1 x2 x3 x4 x5 x6_13 s_12 _ _ _ hw C (lv_sub hl [1, 2, 3, 4, 5, 6, 0] rfl)
set_option maxHeartbeats 4000000 in
theorem kX0_layBounds_28 (hX : ∀ U, E U → EL U) {post : CS → Prop} {k6 : Int32 → Int32 → Int32 → Int32 → Int32 → CS → Prop} (F : Fx p s m args meth c cX0_layBounds 7 RX0 none D d E A) (hk6 : ∀ (x1 : Int32) (x2 : Int32) (x3 : Int32) (x4 : Int32) (x5 : Int32) (st : CS) (H : Heap) (locs : List Loc) (ls : Array Slot), k6 x1 x2 x3 x4 x5 st → Cx D (wX o ad d) A s st H locs → lv_has ls 7 [(0, .ref o), (1, .int x1), (2, .int x2), (3, .int x3), (4, .int x4), (5, .int x5)] → W p l e (headSpec (ws_ yX0_layBounds cX0_layBounds 7 none) rmX0_layBounds).room s m args below meth c H locs 0 0 (QV below D d E (wX o ad d) A args s 0 0 post) (F0 m 6 ls [])) : ∀ (fu : Nat) (x1 : Int32) (x2 : Int32) (x3 : Int32) (x4 : Int32) (x5 : Int32) (x6 : Int32) (st : CS) (H : Heap) (locs : List Loc) (ls : Array Slot), wX0_layBounds_28  post k6 fu x1 x2 x3 x4 x5 x6 st → Cx D (wX o ad d) A s st H locs → lv_has ls 7 [(0, .ref o), (1, .int x1), (2, .int x2), (3, .int x3), (4, .int x4), (5, .int x5), (6, .int x6)] → W p l e (headSpec (ws_ yX0_layBounds cX0_layBounds 7 none) rmX0_layBounds).room s m args below meth c H locs 0 0 (QV below D d E (wX o ad d) A args s 0 0 post) (F0 m 28 ls []) := by
  obtain ⟨hx, hb, hr, hml, hown, hts, hlk, hA, hK, hE⟩ := id F
  intro fu
  induction fu with
  | zero =>
    intro x1 x2 x3 x4 x5 x6 st H locs ls hw
    exact hw.elim
  | succ n ih =>
    have hk28 := ih
    intro x1 x2 x3 x4 x5 x6 st H locs ls hw C hl
    unfold wX0_layBounds_28 at hw
    refine lv_iload hx hb dX0_layBounds_28 (lv_at hl 6 rfl) ?_
    refine lv_aload_n hx hb dX0_layBounds_30 rfl (lv_at hl 0 rfl) ?_
    refine x0_g31 F C dX0_layBounds_31 ?_
    refine lv_icmp_ge (tgt := 71) hx hb dX0_layBounds_34 (by decide) (fun c_4 => ?_) (fun c_4 => ?_)
    · have hw := hw.1 c_4
      refine lv_aload_n hx hb dX0_layBounds_71 rfl (lv_at hl 0 rfl) ?_
      refine lv_iload_n hx hb dX0_layBounds_72 rfl (lv_at hl 1 rfl) ?_
      refine x_callV (rest := []) (ci := 0) (q := (RX0, TX0, 41)) F C (ctX0_share_2 hE hX hw) (cwV 1 hts (lw_V q532 q534 qs13 q70 q535) rfl rfl rfl (by decide +kernel) ⟨Nat.le_of_ble_eq_true rfl, Nat.le_of_ble_eq_true rfl⟩) rfl rfl rfl hl.1 rfl (Nat.le_of_ble_eq_true rfl) dX0_layBounds_73 ⟨Nat.zero_le _, Nat.zero_le _⟩ (fun s_5 H locs hw C => ?_)
      refine lv_aload_n hx hb dX0_layBounds_76 rfl (lv_at hl 0 rfl) ?_
      refine lv_iload hx hb dX0_layBounds_77 (lv_at hl 4 rfl) ?_
      refine x_callV (rest := []) (ci := 0) (q := (RX0, TX0, 41)) F C (ctX0_keep hE hX hw) (cwV 1 hts (lw_V q664 q666 qs32 q70 q667) rfl rfl rfl (by decide +kernel) ⟨Nat.le_of_ble_eq_true rfl, Nat.le_of_ble_eq_true rfl⟩) rfl rfl rfl hl.1 rfl (Nat.le_of_ble_eq_true rfl) dX0_layBounds_79 ⟨Nat.zero_le _, Nat.zero_le _⟩ (fun s_7 H locs hw C => ?_)
      refine lv_iconst (v := 1) hx hb dX0_layBounds_82 (by decide) ?_
      refine lv_istore (lv' := [(4, .int 1), (0, .ref o), (1, .int x1), (2, .int x2), (3, .int x3), (5, .int x5), (6, .int x6)]) hx hb dX0_layBounds_83 hl (by decide) rfl (fun ls hl => ?_)
      exact kX0_layBounds_85 hX F hk6 x1 x2 x3 1 x5 s_7 _ _ _ hw C (lv_sub hl [1, 2, 3, 4, 0, 5] rfl)
    · have hw := hw.2 c_4
      refine lv_aload_n hx hb dX0_layBounds_37 rfl (lv_at hl 0 rfl) ?_
      refine x0_g18 F C dX0_layBounds_38 ?_
      refine lv_aload_n hx hb dX0_layBounds_41 rfl (lv_at hl 0 rfl) ?_
      refine x0_g30 F C dX0_layBounds_42 ?_
      refine lv_iload hx hb dX0_layBounds_45 (lv_at hl 6 rfl) ?_
      obtain ⟨h_9, hw⟩ := hw
      refine x0_ld30 F C h_9 dX0_layBounds_47 ?_
      refine lv_iload hx hb dX0_layBounds_48 (lv_at hl 5 rfl) ?_
      refine lv_iload hx hb dX0_layBounds_50 (lv_at hl 6 rfl) ?_
      refine lv_ishr hx hb dX0_layBounds_52 ?_
      refine lv_iconst (v := 1) hx hb dX0_layBounds_53 (by decide) ?_
      refine lv_iand hx hb dX0_layBounds_54 ?_
      refine lv_iconst (v := 1) hx hb dX0_layBounds_55 (by decide) ?_
      refine lv_icmp_ne (tgt := 63) hx hb dX0_layBounds_56 (by decide) (fun c_10 => ?_) (fun c_10 => ?_)
      · have hw := hw.2 c_10
        refine lv_iconst (v := 0) hx hb dX0_layBounds_63 (by decide) ?_
        exact kX0_layBounds_64 hX F hk6 hk28 x1 x2 x3 x4 x5 x6 0 (sA st 30 x6.toNatClampNeg) st _ _ _ hw C hl
      · have hw := hw.1 c_10
        refine lv_iconst (v := 1) hx hb dX0_layBounds_59 (by decide) ?_
        refine lv_goto (tgt := 64) hx hb dX0_layBounds_60 (by decide) ?_
        exact kX0_layBounds_64 hX F hk6 hk28 x1 x2 x3 x4 x5 x6 1 (sA st 30 x6.toNatClampNeg) st _ _ _ hw C hl
set_option maxHeartbeats 4000000 in
theorem kX0_layBounds_6 (hX : ∀ U, E U → EL U) {post : CS → Prop}  (F : Fx p s m args meth c cX0_layBounds 7 RX0 none D d E A) : ∀ (fu : Nat) (x1 : Int32) (x2 : Int32) (x3 : Int32) (x4 : Int32) (x5 : Int32) (st : CS) (H : Heap) (locs : List Loc) (ls : Array Slot), wX0_layBounds_6  post  fu x1 x2 x3 x4 x5 st → Cx D (wX o ad d) A s st H locs → lv_has ls 7 [(0, .ref o), (1, .int x1), (2, .int x2), (3, .int x3), (4, .int x4), (5, .int x5)] → W p l e (headSpec (ws_ yX0_layBounds cX0_layBounds 7 none) rmX0_layBounds).room s m args below meth c H locs 0 0 (QV below D d E (wX o ad d) A args s 0 0 post) (F0 m 6 ls []) := by
  obtain ⟨hx, hb, hr, hml, hown, hts, hlk, hA, hK, hE⟩ := id F
  intro fu
  induction fu with
  | zero =>
    intro x1 x2 x3 x4 x5 st H locs ls hw
    exact hw.elim
  | succ n ih =>
    have hk6 := ih
    intro x1 x2 x3 x4 x5 st H locs ls hw C hl
    unfold wX0_layBounds_6 at hw
    refine lv_iload hx hb dX0_layBounds_6 (lv_at hl 5 rfl) ?_
    refine lv_iconst (v := 1) hx hb dX0_layBounds_8 (by decide) ?_
    refine lv_aload_n hx hb dX0_layBounds_9 rfl (lv_at hl 0 rfl) ?_
    refine x0_g31 F C dX0_layBounds_10 ?_
    refine lv_ishl hx hb dX0_layBounds_13 ?_
    refine lv_icmp_ge (tgt := 91) hx hb dX0_layBounds_14 (by decide) (fun c_1 => ?_) (fun c_1 => ?_)
    · have hw := hw.1 c_1
      exact x_vret F C hw dX0_layBounds_91
    · have hw := hw.2 c_1
      refine lv_iload hx hb dX0_layBounds_17 (lv_at hl 5 rfl) ?_
      refine lv_iload_n hx hb dX0_layBounds_19 rfl (lv_at hl 2 rfl) ?_
      refine lv_iand hx hb dX0_layBounds_20 ?_
      refine lv_iload_n hx hb dX0_layBounds_21 rfl (lv_at hl 3 rfl) ?_
      refine lv_icmp_ne (tgt := 85) hx hb dX0_layBounds_22 (by decide) (fun c_2 => ?_) (fun c_2 => ?_)
      · have hw := hw.2 c_2
        exact kX0_layBounds_85 hX F hk6 x1 x2 x3 x4 x5 st _ _ _ hw C hl
      · have hw := hw.1 c_2
        refine lv_iconst (v := 0) hx hb dX0_layBounds_25 (by decide) ?_
        refine lv_istore (lv' := [(6, .int 0), (0, .ref o), (1, .int x1), (2, .int x2), (3, .int x3), (4, .int x4), (5, .int x5)]) hx hb dX0_layBounds_26 hl (by decide) rfl (fun ls hl => ?_)
        obtain ⟨fu, hw⟩ := hw
        exact kX0_layBounds_28 hX F hk6 fu x1 x2 x3 x4 x5 0 st _ _ _ hw C (lv_sub hl [1, 2, 3, 4, 5, 6, 0] rfl)
theorem ctX0_layBounds (hE : Em E) (hX : ∀ U, E U → EL U) {post : CS → Prop} {s0 : CS} {p0 p1 p2 : Int32} (hw : wpX0_layBounds  post s0 p0 p1 p2) : CtV l yX0_layBounds (ws_ yX0_layBounds cX0_layBounds 7 none) rmX0_layBounds D d E (wX o ad d) 0 0 [.ref o, .int p0, .int p1, .int p2] s0 post := by
  refine CtV.of hE (by decide) rfl (Nat.le_of_ble_eq_true rfl) ?_
  intro p e s m below meth c A ls F C hl
  have hl : lv_has ls 7 [(0, .ref o), (1, .int p0), (2, .int p1), (3, .int p2)] := hl
  unfold wpX0_layBounds at hw
  obtain ⟨hx, hb, hr, hml, hown, hts, hlk, hA, hK, -⟩ := id F
  refine lv_iconst (v := 0) hx hb dX0_layBounds_0 (by decide) ?_
  refine lv_istore (lv' := [(4, .int 0), (0, .ref o), (1, .int p0), (2, .int p1), (3, .int p2)]) hx hb dX0_layBounds_1 hl (by decide) rfl (fun ls hl => ?_)
  refine lv_iconst (v := 0) hx hb dX0_layBounds_3 (by decide) ?_
  refine lv_istore (lv' := [(5, .int 0), (4, .int 0), (0, .ref o), (1, .int p0), (2, .int p1), (3, .int p2)]) hx hb dX0_layBounds_4 hl (by decide) rfl (fun ls hl => ?_)
  obtain ⟨fu, hw⟩ := hw
  exact kX0_layBounds_6 hX F  fu p0 p1 p2 0 0 s0 _ _ _ hw C (lv_sub hl [2, 3, 4, 5, 1, 0] rfl)

abbrev rmX0_bound : Room := { frames := 55, cells := 0, slots := 0, locals := 1228 }
def wpX0_bound  (post : Int32 → CS → Prop) (s0 : CS) (p0 : Int32) (p1 : Int32) (p2 : Int32) : Prop := (wpX0_isOwner (fun r_2 s_1 => (wpX0_needOpen (fun r_4 s_3 => ((0 ≤ r_4 → (wpX0_layBounds (fun s_6 => (wpX0_placeOf (fun r_9 s_8 => ((p2 = 0 → (vp_in r_9 25 ∧ (vp_in r_9 25 ∧ (wpX0_tells (fun r_14 s_13 => (post r_14 s_13)) s_8 (sM s_8 32 r_9.toNatClampNeg) (sM s_8 33 r_9.toNatClampNeg))))) ∧ (¬ p2 = 0 → (vp_in r_9 25 ∧ (vp_in r_9 25 ∧ (wpX0_tells (fun r_18 s_17 => (post r_18 s_17)) s_8 (sM s_8 34 r_9.toNatClampNeg) (sM s_8 35 r_9.toNatClampNeg))))))) s_6 p1)) s_3 p0 0 0)) ∧ (¬ 0 ≤ r_4 → (post r_4 s_3)))) s_1 r_2 p0)) s0 p1)
theorem ctX0_bound (hE : Em E) (hX : ∀ U, E U → EL U) {post : Int32 → CS → Prop} {s0 : CS} {p0 p1 p2 : Int32} (hw : wpX0_bound  post s0 p0 p1 p2) : CtI l yX0_bound (ws_ yX0_bound cX0_bound 6 (some .int)) rmX0_bound D d E (wX o ad d) 0 0 [.ref o, .int p0, .int p1, .int p2] s0 post := by
  refine CtI.of hE (by decide) rfl (Nat.le_of_ble_eq_true rfl) ?_
  intro p e s m below meth c A ls F C hl
  have hl : lv_has ls 6 [(0, .ref o), (1, .int p0), (2, .int p1), (3, .int p2)] := hl
  unfold wpX0_bound at hw
  obtain ⟨hx, hb, hr, hml, hown, hts, hlk, hA, hK, -⟩ := id F
  refine lv_aload_n hx hb dX0_bound_0 rfl (lv_at hl 0 rfl) ?_
  refine lv_aload_n hx hb dX0_bound_1 rfl (lv_at hl 0 rfl) ?_
  refine lv_iload_n hx hb dX0_bound_2 rfl (lv_at hl 2 rfl) ?_
  refine x_callI (rest := [.ref o]) (ci := 0) (q := (RX0, TX0, 41)) F C (ctX0_isOwner hE hX hw) (cwV 1 hts (lw_V q524 q526 qs11 q70 q527) rfl rfl rfl (by decide +kernel) ⟨Nat.le_of_ble_eq_true rfl, Nat.le_of_ble_eq_true rfl⟩) rfl rfl rfl hl.1 rfl (Nat.le_of_ble_eq_true rfl) dX0_bound_3 ⟨Nat.zero_le _, Nat.zero_le _⟩ (fun r_2 s_1 H locs hw C => ?_)
  refine lv_iload_n hx hb dX0_bound_6 rfl (lv_at hl 1 rfl) ?_
  refine x_callI (rest := []) (ci := 0) (q := (RX0, TX0, 41)) F C (ctX0_needOpen hE hX hw) (cwV 2 hts (lw_V q656 q658 qs30 q70 q659) rfl rfl rfl (by decide +kernel) ⟨Nat.le_of_ble_eq_true rfl, Nat.le_of_ble_eq_true rfl⟩) rfl rfl rfl hl.1 rfl (Nat.le_of_ble_eq_true rfl) dX0_bound_7 ⟨Nat.zero_le _, Nat.zero_le _⟩ (fun r_4 s_3 H locs hw C => ?_)
  refine lv_istore (lv' := [(4, .int r_4), (0, .ref o), (1, .int p0), (2, .int p1), (3, .int p2)]) hx hb dX0_bound_10 hl (by decide) rfl (fun ls hl => ?_)
  refine lv_iload hx hb dX0_bound_12 (lv_at hl 0 rfl) ?_
  refine lv_if_ge (tgt := 20) hx hb dX0_bound_14 (by decide) (fun c_5 => ?_) (fun c_5 => ?_)
  · have hw := hw.1 c_5
    refine lv_aload_n hx hb dX0_bound_20 rfl (lv_at hl 1 rfl) ?_
    refine lv_iload_n hx hb dX0_bound_21 rfl (lv_at hl 2 rfl) ?_
    refine lv_iconst (v := 0) hx hb dX0_bound_22 (by decide) ?_
    refine lv_iconst (v := 0) hx hb dX0_bound_23 (by decide) ?_
    refine x_callV (rest := []) (ci := 0) (q := (RX0, TX0, 41)) F C (ctX0_layBounds hE hX hw) (cwV 3 hts (lw_V q660 q662 qs31 q70 q663) rfl rfl rfl (by decide +kernel) ⟨Nat.le_of_ble_eq_true rfl, Nat.le_of_ble_eq_true rfl⟩) rfl rfl rfl hl.1 rfl (Nat.le_of_ble_eq_true rfl) dX0_bound_24 ⟨Nat.zero_le _, Nat.zero_le _⟩ (fun s_6 H locs hw C => ?_)
    refine lv_iload_n hx hb dX0_bound_27 rfl (lv_at hl 3 rfl) ?_
    refine x_callSI (rest := []) F C (ctX0_placeOf hE hw) (va_cwS 1 hts (lw_S q617 q618 q70 q619) rfl rfl rfl (by decide +kernel) ⟨Nat.le_of_ble_eq_true rfl, Nat.le_of_ble_eq_true rfl⟩) rfl hl.1 rfl (Nat.le_of_ble_eq_true rfl) dX0_bound_28 ⟨Nat.zero_le _, Nat.zero_le _⟩ (fun r_9 s_8 H locs hw C => ?_)
    refine lv_istore (lv' := [(5, .int r_9), (4, .int r_4), (0, .ref o), (1, .int p0), (2, .int p1), (3, .int p2)]) hx hb dX0_bound_31 hl (by decide) rfl (fun ls hl => ?_)
    refine lv_iload_n hx hb dX0_bound_33 rfl (lv_at hl 5 rfl) ?_
    refine lv_if_eq (tgt := 58) hx hb dX0_bound_34 (by decide) (fun c_10 => ?_) (fun c_10 => ?_)
    · have hw := hw.1 c_10
      refine lv_aload_n hx hb dX0_bound_58 rfl (lv_at hl 2 rfl) ?_
      refine lv_aload_n hx hb dX0_bound_59 rfl (lv_at hl 2 rfl) ?_
      refine x0_g32 F C dX0_bound_60 ?_
      refine lv_iload hx hb dX0_bound_63 (lv_at hl 0 rfl) ?_
      obtain ⟨h_11, hw⟩ := hw
      refine x0_ld32 F C h_11 dX0_bound_65 ?_
      refine lv_aload_n hx hb dX0_bound_66 rfl (lv_at hl 2 rfl) ?_
      refine x0_g33 F C dX0_bound_67 ?_
      refine lv_iload hx hb dX0_bound_70 (lv_at hl 0 rfl) ?_
      obtain ⟨h_12, hw⟩ := hw
      refine x0_ld33 F C h_12 dX0_bound_72 ?_
      refine x_callI (rest := []) (ci := 0) (q := (RX0, TX0, 41)) F C (ctX0_tells hE hX hw) (cwV 2 hts (lw_V q620 q622 qs28 q70 q623) rfl rfl rfl (by decide +kernel) ⟨Nat.le_of_ble_eq_true rfl, Nat.le_of_ble_eq_true rfl⟩) rfl rfl rfl hl.1 rfl (Nat.le_of_ble_eq_true rfl) dX0_bound_73 ⟨Nat.zero_le _, Nat.zero_le _⟩ (fun r_14 s_13 H locs hw C => ?_)
      exact x_iret F C hw dX0_bound_76
    · have hw := hw.2 c_10
      refine lv_aload_n hx hb dX0_bound_37 rfl (lv_at hl 2 rfl) ?_
      refine lv_aload_n hx hb dX0_bound_38 rfl (lv_at hl 2 rfl) ?_
      refine x0_g34 F C dX0_bound_39 ?_
      refine lv_iload hx hb dX0_bound_42 (lv_at hl 0 rfl) ?_
      obtain ⟨h_15, hw⟩ := hw
      refine x0_ld34 F C h_15 dX0_bound_44 ?_
      refine lv_aload_n hx hb dX0_bound_45 rfl (lv_at hl 2 rfl) ?_
      refine x0_g35 F C dX0_bound_46 ?_
      refine lv_iload hx hb dX0_bound_49 (lv_at hl 0 rfl) ?_
      obtain ⟨h_16, hw⟩ := hw
      refine x0_ld35 F C h_16 dX0_bound_51 ?_
      refine x_callI (rest := []) (ci := 0) (q := (RX0, TX0, 41)) F C (ctX0_tells hE hX hw) (cwV 2 hts (lw_V q620 q622 qs28 q70 q623) rfl rfl rfl (by decide +kernel) ⟨Nat.le_of_ble_eq_true rfl, Nat.le_of_ble_eq_true rfl⟩) rfl rfl rfl hl.1 rfl (Nat.le_of_ble_eq_true rfl) dX0_bound_52 ⟨Nat.zero_le _, Nat.zero_le _⟩ (fun r_18 s_17 H locs hw C => ?_)
      refine lv_goto (tgt := 76) hx hb dX0_bound_55 (by decide) ?_
      exact x_iret F C hw dX0_bound_76
  · have hw := hw.2 c_5
    refine lv_iload hx hb dX0_bound_17 (lv_at hl 0 rfl) ?_
    exact x_iret F C hw dX0_bound_19

abbrev rmX0_laySpread : Room := { frames := 55, cells := 0, slots := 0, locals := 1228 }
def wX0_laySpread_16  (post : CS → Prop)  : Nat → Int64 → Int64 → Int32 → CS → Prop
  | 0 => fun _ _ _ _ => False
  | n + 1 => fun x4 x6 x8 st => (((sI st 6) ≤ x8 → (∀ s_4 : CS, s_4 = uL st 4 x4 → (∀ s_5 : CS, s_5 = uL s_4 5 x6 → (post s_5)))) ∧ (¬ (sI st 6) ≤ x8 → (vp_in x8 25 ∧ (vp_in x8 25 ∧ (wpX0_add (fun s_8 => (vp_in x8 25 ∧ (vp_in x8 25 ∧ (wpX0_add (fun s_12 => (∀ x4_14 : Int64, x4_14 = (sL s_12 4) → (∀ x6_15 : Int64, x6_15 = (sL s_12 5) → (∀ x8_16 : Int32, x8_16 = x8 + 1 → (wX0_laySpread_16  post  n x4_14 x6_15 x8_16 s_12))))) s_8 (sL s_8 4) (sL s_8 5) (-(sM s_8 32 x8.toNatClampNeg)) (sM s_8 33 x8.toNatClampNeg))))) st x4 x6 (sM st 34 x8.toNatClampNeg) (sM st 35 x8.toNatClampNeg))))))
def wpX0_laySpread  (post : CS → Prop) (s0 : CS) (p0 : Int32) (p1 : Int32) (p2 : Int32) : Prop := (wpX0_layBounds (fun s_1 => (∃ fu : Nat, wX0_laySpread_16  post  fu 0 1 0 s_1)) s0 p0 p1 p2)
set_option maxHeartbeats 4000000 in
theorem kX0_laySpread_16 (hX : ∀ U, E U → EL U) {post : CS → Prop}  (F : Fx p s m args meth c cX0_laySpread 9 RX0 none D d E A) : ∀ (fu : Nat) (x4 : Int64) (x6 : Int64) (x8 : Int32) (st : CS) (H : Heap) (locs : List Loc) (ls : Array Slot), wX0_laySpread_16  post  fu x4 x6 x8 st → Cx D (wX o ad d) A s st H locs → lv_has ls 9 [(0, .ref o), (4, .long x4), (6, .long x6), (8, .int x8)] → W p l e (headSpec (ws_ yX0_laySpread cX0_laySpread 9 none) rmX0_laySpread).room s m args below meth c H locs 0 0 (QV below D d E (wX o ad d) A args s 0 0 post) (F0 m 16 ls []) := by
  obtain ⟨hx, hb, hr, hml, hown, hts, hlk, hA, hK, hE⟩ := id F
  intro fu
  induction fu with
  | zero =>
    intro x4 x6 x8 st H locs ls hw
    exact hw.elim
  | succ n ih =>
    have hk16 := ih
    intro x4 x6 x8 st H locs ls hw C hl
    unfold wX0_laySpread_16 at hw
    refine lv_iload hx hb dX0_laySpread_16 (lv_at hl 3 rfl) ?_
    refine lv_aload_n hx hb dX0_laySpread_18 rfl (lv_at hl 0 rfl) ?_
    refine x0_g6 F C dX0_laySpread_19 ?_
    refine lv_icmp_ge (tgt := 92) hx hb dX0_laySpread_22 (by decide) (fun c_3 => ?_) (fun c_3 => ?_)
    · have hw := hw.1 c_3
      refine lv_aload_n hx hb dX0_laySpread_92 rfl (lv_at hl 0 rfl) ?_
      refine lv_lload hx hb dX0_laySpread_93 (lv_at hl 1 rfl) ?_
      refine x0_p4 F C dX0_laySpread_95 (fun H locs s_4 es_4 C => ?_)
      have hw := hw s_4 es_4
      refine lv_aload_n hx hb dX0_laySpread_98 rfl (lv_at hl 0 rfl) ?_
      refine lv_lload hx hb dX0_laySpread_99 (lv_at hl 2 rfl) ?_
      refine x0_p5 F C dX0_laySpread_101 (fun H locs s_5 es_5 C => ?_)
      have hw := hw s_5 es_5
      exact x_vret F C hw dX0_laySpread_104
    · have hw := hw.2 c_3
      refine lv_aload_n hx hb dX0_laySpread_25 rfl (lv_at hl 0 rfl) ?_
      refine lv_lload hx hb dX0_laySpread_26 (lv_at hl 1 rfl) ?_
      refine lv_lload hx hb dX0_laySpread_28 (lv_at hl 2 rfl) ?_
      refine lv_aload_n hx hb dX0_laySpread_30 rfl (lv_at hl 0 rfl) ?_
      refine x0_g34 F C dX0_laySpread_31 ?_
      refine lv_iload hx hb dX0_laySpread_34 (lv_at hl 3 rfl) ?_
      obtain ⟨h_6, hw⟩ := hw
      refine x0_ld34 F C h_6 dX0_laySpread_36 ?_
      refine lv_aload_n hx hb dX0_laySpread_37 rfl (lv_at hl 0 rfl) ?_
      refine x0_g35 F C dX0_laySpread_38 ?_
      refine lv_iload hx hb dX0_laySpread_41 (lv_at hl 3 rfl) ?_
      obtain ⟨h_7, hw⟩ := hw
      refine x0_ld35 F C h_7 dX0_laySpread_43 ?_
      refine x_callV (rest := []) (ci := 0) (q := (RX0, TX0, 41)) F C (ctX0_add hE hX hw) (cwV 4 hts (lw_V q591 q593 qs23 q70 q594) rfl rfl rfl (by decide +kernel) ⟨Nat.le_of_ble_eq_true rfl, Nat.le_of_ble_eq_true rfl⟩) rfl rfl rfl hl.1 rfl (Nat.le_of_ble_eq_true rfl) dX0_laySpread_44 ⟨Nat.zero_le _, Nat.zero_le _⟩ (fun s_8 H locs hw C => ?_)
      refine lv_aload_n hx hb dX0_laySpread_47 rfl (lv_at hl 0 rfl) ?_
      refine lv_aload_n hx hb dX0_laySpread_48 rfl (lv_at hl 0 rfl) ?_
      refine x0_g4 F C dX0_laySpread_49 ?_
      refine lv_aload_n hx hb dX0_laySpread_52 rfl (lv_at hl 0 rfl) ?_
      refine x0_g5 F C dX0_laySpread_53 ?_
      refine lv_aload_n hx hb dX0_laySpread_56 rfl (lv_at hl 0 rfl) ?_
      refine x0_g32 F C dX0_laySpread_57 ?_
      refine lv_iload hx hb dX0_laySpread_60 (lv_at hl 3 rfl) ?_
      obtain ⟨h_10, hw⟩ := hw
      refine x0_ld32 F C h_10 dX0_laySpread_62 ?_
      refine lv_lneg hx hb dX0_laySpread_63 ?_
      refine lv_aload_n hx hb dX0_laySpread_64 rfl (lv_at hl 0 rfl) ?_
      refine x0_g33 F C dX0_laySpread_65 ?_
      refine lv_iload hx hb dX0_laySpread_68 (lv_at hl 3 rfl) ?_
      obtain ⟨h_11, hw⟩ := hw
      refine x0_ld33 F C h_11 dX0_laySpread_70 ?_
      refine x_callV (rest := []) (ci := 0) (q := (RX0, TX0, 41)) F C (ctX0_add hE hX hw) (cwV 4 hts (lw_V q591 q593 qs23 q70 q594) rfl rfl rfl (by decide +kernel) ⟨Nat.le_of_ble_eq_true rfl, Nat.le_of_ble_eq_true rfl⟩) rfl rfl rfl hl.1 rfl (Nat.le_of_ble_eq_true rfl) dX0_laySpread_71 ⟨Nat.zero_le _, Nat.zero_le _⟩ (fun s_12 H locs hw C => ?_)
      refine lv_aload_n hx hb dX0_laySpread_74 rfl (lv_at hl 0 rfl) ?_
      refine x0_g4 F C dX0_laySpread_75 ?_
      refine lv_topl (fun x4_14 ex4_14 => ?_)
      have hw := hw x4_14 ex4_14
      refine lv_lstore (lv' := [(4, .long x4_14), (0, .ref o), (6, .long x6), (8, .int x8)]) hx hb dX0_laySpread_78 hl (by decide) rfl (fun ls hl => ?_)
      refine lv_aload_n hx hb dX0_laySpread_80 rfl (lv_at hl 1 rfl) ?_
      refine x0_g5 F C dX0_laySpread_81 ?_
      refine lv_topl (fun x6_15 ex6_15 => ?_)
      have hw := hw x6_15 ex6_15
      refine lv_lstore (lv' := [(6, .long x6_15), (4, .long x4_14), (0, .ref o), (8, .int x8)]) hx hb dX0_laySpread_84 hl (by decide) rfl (fun ls hl => ?_)
      obtain ⟨x8_16, ex8_16⟩ : ∃ y : Int32, y = x8 + 1 := ⟨_, rfl⟩
      have hw := hw x8_16 ex8_16
      refine lv_iinc (v := x8_16) (lv' := [(8, .int x8_16), (6, .long x6_15), (4, .long x4_14), (0, .ref o)]) hx hb dX0_laySpread_86 hl (k := 3) rfl (by rw [ex8_16]; rfl) (by decide) rfl (fun ls hl => ?_)
      refine lv_goto (tgt := 16) hx hb dX0_laySpread_89 (by decide) ?_
      exact hk16 x4_14 x6_15 x8_16 s_12 _ _ _ hw C (lv_sub hl [3, 2, 1, 0] rfl)
theorem ctX0_laySpread (hE : Em E) (hX : ∀ U, E U → EL U) {post : CS → Prop} {s0 : CS} {p0 p1 p2 : Int32} (hw : wpX0_laySpread  post s0 p0 p1 p2) : CtV l yX0_laySpread (ws_ yX0_laySpread cX0_laySpread 9 none) rmX0_laySpread D d E (wX o ad d) 0 0 [.ref o, .int p0, .int p1, .int p2] s0 post := by
  refine CtV.of hE (by decide) rfl (Nat.le_of_ble_eq_true rfl) ?_
  intro p e s m below meth c A ls F C hl
  have hl : lv_has ls 9 [(0, .ref o), (1, .int p0), (2, .int p1), (3, .int p2)] := hl
  unfold wpX0_laySpread at hw
  obtain ⟨hx, hb, hr, hml, hown, hts, hlk, hA, hK, -⟩ := id F
  refine lv_aload_n hx hb dX0_laySpread_0 rfl (lv_at hl 0 rfl) ?_
  refine lv_iload_n hx hb dX0_laySpread_1 rfl (lv_at hl 1 rfl) ?_
  refine lv_iload_n hx hb dX0_laySpread_2 rfl (lv_at hl 2 rfl) ?_
  refine lv_iload_n hx hb dX0_laySpread_3 rfl (lv_at hl 3 rfl) ?_
  refine x_callV (rest := []) (ci := 0) (q := (RX0, TX0, 41)) F C (ctX0_layBounds hE hX hw) (cwV 3 hts (lw_V q660 q662 qs31 q70 q663) rfl rfl rfl (by decide +kernel) ⟨Nat.le_of_ble_eq_true rfl, Nat.le_of_ble_eq_true rfl⟩) rfl rfl rfl hl.1 rfl (Nat.le_of_ble_eq_true rfl) dX0_laySpread_4 ⟨Nat.zero_le _, Nat.zero_le _⟩ (fun s_1 H locs hw C => ?_)
  refine lv_lconst (v := 0) hx hb dX0_laySpread_7 (by decide) ?_
  refine lv_lstore (lv' := [(4, .long 0), (0, .ref o), (1, .int p0), (2, .int p1), (3, .int p2)]) hx hb dX0_laySpread_8 hl (by decide) rfl (fun ls hl => ?_)
  refine lv_lconst (v := 1) hx hb dX0_laySpread_10 (by decide) ?_
  refine lv_lstore (lv' := [(6, .long 1), (4, .long 0), (0, .ref o), (1, .int p0), (2, .int p1), (3, .int p2)]) hx hb dX0_laySpread_11 hl (by decide) rfl (fun ls hl => ?_)
  refine lv_iconst (v := 0) hx hb dX0_laySpread_13 (by decide) ?_
  refine lv_istore (lv' := [(8, .int 0), (6, .long 1), (4, .long 0), (0, .ref o), (1, .int p0), (2, .int p1), (3, .int p2)]) hx hb dX0_laySpread_14 hl (by decide) rfl (fun ls hl => ?_)
  obtain ⟨fu, hw⟩ := hw
  exact kX0_laySpread_16 hX F  fu 0 1 0 s_1 _ _ _ hw C (lv_sub hl [3, 2, 1, 0] rfl)

abbrev rmX0_spread : Room := { frames := 56, cells := 0, slots := 0, locals := 1256 }
def wpX0_spread  (post : Int32 → CS → Prop) (s0 : CS) (p0 : Int32) : Prop := (wpX0_needOpen (fun r_2 s_1 => ((0 ≤ r_2 → (wpX0_laySpread (fun s_4 => (wpX0_tells (fun r_7 s_6 => (post r_7 s_6)) s_4 (sL s_4 4) (sL s_4 5))) s_1 p0 0 0)) ∧ (¬ 0 ≤ r_2 → (post r_2 s_1)))) s0 1 p0)
theorem ctX0_spread (hE : Em E) (hX : ∀ U, E U → EL U) {post : Int32 → CS → Prop} {s0 : CS} {p0 : Int32} (hw : wpX0_spread  post s0 p0) : CtI l yX0_spread (ws_ yX0_spread cX0_spread 3 (some .int)) rmX0_spread D d E (wX o ad d) 0 0 [.ref o, .int p0] s0 post := by
  refine CtI.of hE (by decide) rfl (Nat.le_of_ble_eq_true rfl) ?_
  intro p e s m below meth c A ls F C hl
  have hl : lv_has ls 3 [(0, .ref o), (1, .int p0)] := hl
  unfold wpX0_spread at hw
  obtain ⟨hx, hb, hr, hml, hown, hts, hlk, hA, hK, -⟩ := id F
  refine lv_aload_n hx hb dX0_spread_0 rfl (lv_at hl 0 rfl) ?_
  refine lv_iconst (v := 1) hx hb dX0_spread_1 (by decide) ?_
  refine lv_iload_n hx hb dX0_spread_2 rfl (lv_at hl 1 rfl) ?_
  refine x_callI (rest := []) (ci := 0) (q := (RX0, TX0, 41)) F C (ctX0_needOpen hE hX hw) (cwV 2 hts (lw_V q656 q658 qs30 q70 q659) rfl rfl rfl (by decide +kernel) ⟨Nat.le_of_ble_eq_true rfl, Nat.le_of_ble_eq_true rfl⟩) rfl rfl rfl hl.1 rfl (Nat.le_of_ble_eq_true rfl) dX0_spread_3 ⟨Nat.zero_le _, Nat.zero_le _⟩ (fun r_2 s_1 H locs hw C => ?_)
  refine lv_istore_n (lv' := [(2, .int r_2), (0, .ref o), (1, .int p0)]) hx hb dX0_spread_6 rfl hl (by decide) rfl (fun ls hl => ?_)
  refine lv_iload_n hx hb dX0_spread_7 rfl (lv_at hl 0 rfl) ?_
  refine lv_if_ge (tgt := 13) hx hb dX0_spread_8 (by decide) (fun c_3 => ?_) (fun c_3 => ?_)
  · have hw := hw.1 c_3
    refine lv_aload_n hx hb dX0_spread_13 rfl (lv_at hl 1 rfl) ?_
    refine lv_iload_n hx hb dX0_spread_14 rfl (lv_at hl 2 rfl) ?_
    refine lv_iconst (v := 0) hx hb dX0_spread_15 (by decide) ?_
    refine lv_iconst (v := 0) hx hb dX0_spread_16 (by decide) ?_
    refine x_callV (rest := []) (ci := 0) (q := (RX0, TX0, 41)) F C (ctX0_laySpread hE hX hw) (cwV 3 hts (lw_V q678 q680 qs33 q70 q681) rfl rfl rfl (by decide +kernel) ⟨Nat.le_of_ble_eq_true rfl, Nat.le_of_ble_eq_true rfl⟩) rfl rfl rfl hl.1 rfl (Nat.le_of_ble_eq_true rfl) dX0_spread_17 ⟨Nat.zero_le _, Nat.zero_le _⟩ (fun s_4 H locs hw C => ?_)
    refine lv_aload_n hx hb dX0_spread_20 rfl (lv_at hl 1 rfl) ?_
    refine lv_aload_n hx hb dX0_spread_21 rfl (lv_at hl 1 rfl) ?_
    refine x0_g4 F C dX0_spread_22 ?_
    refine lv_aload_n hx hb dX0_spread_25 rfl (lv_at hl 1 rfl) ?_
    refine x0_g5 F C dX0_spread_26 ?_
    refine x_callI (rest := []) (ci := 0) (q := (RX0, TX0, 41)) F C (ctX0_tells hE hX hw) (cwV 2 hts (lw_V q620 q622 qs28 q70 q623) rfl rfl rfl (by decide +kernel) ⟨Nat.le_of_ble_eq_true rfl, Nat.le_of_ble_eq_true rfl⟩) rfl rfl rfl hl.1 rfl (Nat.le_of_ble_eq_true rfl) dX0_spread_29 ⟨Nat.zero_le _, Nat.zero_le _⟩ (fun r_7 s_6 H locs hw C => ?_)
    exact x_iret F C hw dX0_spread_32
  · have hw := hw.2 c_3
    refine lv_iload_n hx hb dX0_spread_11 rfl (lv_at hl 0 rfl) ?_
    exact x_iret F C hw dX0_spread_12

abbrev rmX0_layWorth : Room := { frames := 56, cells := 0, slots := 0, locals := 1256 }
def wX0_layWorth_59  (post : CS → Prop)  (x1 : Int32) (x2 : Int32) (x3 : Int64) (x5 : Int64) (st : CS) : Prop := (wpX0_laySpread (fun s_10 => (wpX0_add (fun s_12 => (vp_in x2 40 ∧ (vp_in (sA s_12 30 x2.toNatClampNeg) 40 ∧ ∃ a_16 : Nat, sR s_12 10 (sA s_12 30 x2.toNatClampNeg).toNatClampNeg = some a_16 ∧ (okE s_12 a_16 ∧ (∀ x7_18 : Int32, x7_18 = (markC (sE s_12 a_16).1 (sE s_12 a_16).2.2) → (∀ s_19 : CS, s_19 = uL s_12 36 (sL s_12 4) → (∀ s_20 : CS, s_20 = uL s_19 37 ((sL s_19 5) * x7_18.toInt64) → (post s_20)))))))) s_10 (sL s_10 4) (sL s_10 5) (-x3) x5)) st x1 0 0)
def wpX0_layWorth  (post : CS → Prop) (s0 : CS) (p0 : Int32) (p1 : Int32) : Prop := (wpX0_laySpread (fun s_1 => (∀ x3_3 : Int64, x3_3 = (sL s_1 4) → (∀ x5_4 : Int64, x5_4 = (sL s_1 5) → (wpX0_laySpread (fun s_5 => (wpX0_compare (fun r_8 s_7 => ((r_8 ≤ 0 → (wX0_layWorth_59  post  p0 p1 x3_3 x5_4 s_7)) ∧ (¬ r_8 ≤ 0 → (∀ x3_21 : Int64, x3_21 = (sL s_7 4) → (∀ x5_22 : Int64, x5_22 = (sL s_7 5) → (wX0_layWorth_59  post  p0 p1 x3_21 x5_22 s_7)))))) s_5 (sL s_5 4) (sL s_5 5) x3_3 x5_4)) s_1 p0 (1 <<< (p1 &&& 31)) 0)))) s0 p0 (1 <<< (p1 &&& 31)) (1 <<< (p1 &&& 31)))
set_option maxHeartbeats 4000000 in
theorem kX0_layWorth_59 (hX : ∀ U, E U → EL U) {post : CS → Prop}  (F : Fx p s m args meth c cX0_layWorth 8 RX0 none D d E A) : ∀ (x1 : Int32) (x2 : Int32) (x3 : Int64) (x5 : Int64) (st : CS) (H : Heap) (locs : List Loc) (ls : Array Slot), wX0_layWorth_59  post  x1 x2 x3 x5 st → Cx D (wX o ad d) A s st H locs → lv_has ls 8 [(0, .ref o), (1, .int x1), (2, .int x2), (3, .long x3), (5, .long x5)] → W p l e (headSpec (ws_ yX0_layWorth cX0_layWorth 8 none) rmX0_layWorth).room s m args below meth c H locs 0 0 (QV below D d E (wX o ad d) A args s 0 0 post) (F0 m 59 ls []) := by
  obtain ⟨hx, hb, hr, hml, hown, hts, hlk, hA, hK, hE⟩ := id F
  intro x1 x2 x3 x5 st H locs ls hw C hl
  unfold wX0_layWorth_59 at hw
  refine lv_aload_n hx hb dX0_layWorth_59 rfl (lv_at hl 0 rfl) ?_
  refine lv_iload_n hx hb dX0_layWorth_60 rfl (lv_at hl 1 rfl) ?_
  refine lv_iconst (v := 0) hx hb dX0_layWorth_61 (by decide) ?_
  refine lv_iconst (v := 0) hx hb dX0_layWorth_62 (by decide) ?_
  refine x_callV (rest := []) (ci := 0) (q := (RX0, TX0, 41)) F C (ctX0_laySpread hE hX hw) (cwV 3 hts (lw_V q678 q680 qs33 q70 q681) rfl rfl rfl (by decide +kernel) ⟨Nat.le_of_ble_eq_true rfl, Nat.le_of_ble_eq_true rfl⟩) rfl rfl rfl hl.1 rfl (Nat.le_of_ble_eq_true rfl) dX0_layWorth_63 ⟨Nat.zero_le _, Nat.zero_le _⟩ (fun s_10 H locs hw C => ?_)
  refine lv_aload_n hx hb dX0_layWorth_66 rfl (lv_at hl 0 rfl) ?_
  refine lv_aload_n hx hb dX0_layWorth_67 rfl (lv_at hl 0 rfl) ?_
  refine x0_g4 F C dX0_layWorth_68 ?_
  refine lv_aload_n hx hb dX0_layWorth_71 rfl (lv_at hl 0 rfl) ?_
  refine x0_g5 F C dX0_layWorth_72 ?_
  refine lv_lload_n hx hb dX0_layWorth_75 rfl (lv_at hl 3 rfl) ?_
  refine lv_lneg hx hb dX0_layWorth_76 ?_
  refine lv_lload hx hb dX0_layWorth_77 (lv_at hl 4 rfl) ?_
  refine x_callV (rest := []) (ci := 0) (q := (RX0, TX0, 41)) F C (ctX0_add hE hX hw) (cwV 4 hts (lw_V q591 q593 qs23 q70 q594) rfl rfl rfl (by decide +kernel) ⟨Nat.le_of_ble_eq_true rfl, Nat.le_of_ble_eq_true rfl⟩) rfl rfl rfl hl.1 rfl (Nat.le_of_ble_eq_true rfl) dX0_layWorth_79 ⟨Nat.zero_le _, Nat.zero_le _⟩ (fun s_12 H locs hw C => ?_)
  refine lv_aload_n hx hb dX0_layWorth_82 rfl (lv_at hl 0 rfl) ?_
  refine x0_g10 F C dX0_layWorth_83 ?_
  refine lv_aload_n hx hb dX0_layWorth_86 rfl (lv_at hl 0 rfl) ?_
  refine x0_g30 F C dX0_layWorth_87 ?_
  refine lv_iload_n hx hb dX0_layWorth_90 rfl (lv_at hl 2 rfl) ?_
  obtain ⟨h_14, hw⟩ := hw
  refine x0_ld30 F C h_14 dX0_layWorth_91 ?_
  obtain ⟨h_15, a_16, ha_16, hw⟩ := hw
  refine x0_ldL F C h_15 ha_16 dX0_layWorth_92 ?_
  obtain ⟨h_17, hw⟩ := hw
  refine x0_mark (rest := []) F C h_17 ⟨Nat.le_of_ble_eq_true rfl, Nat.le_of_ble_eq_true rfl⟩ hl.1 (Nat.le_of_ble_eq_true rfl) dX0_layWorth_93 ⟨Nat.zero_le _, Nat.zero_le _⟩ (fun H locs C => ?_)
  refine lv_topi (fun x7_18 ex7_18 => ?_)
  have hw := hw x7_18 ex7_18
  refine lv_istore (lv' := [(7, .int x7_18), (0, .ref o), (1, .int x1), (2, .int x2), (3, .long x3), (5, .long x5)]) hx hb dX0_layWorth_96 hl (by decide) rfl (fun ls hl => ?_)
  refine lv_aload_n hx hb dX0_layWorth_98 rfl (lv_at hl 1 rfl) ?_
  refine lv_aload_n hx hb dX0_layWorth_99 rfl (lv_at hl 1 rfl) ?_
  refine x0_g4 F C dX0_layWorth_100 ?_
  refine x0_p36 F C dX0_layWorth_103 (fun H locs s_19 es_19 C => ?_)
  have hw := hw s_19 es_19
  refine lv_aload_n hx hb dX0_layWorth_106 rfl (lv_at hl 1 rfl) ?_
  refine lv_aload_n hx hb dX0_layWorth_107 rfl (lv_at hl 1 rfl) ?_
  refine x0_g5 F C dX0_layWorth_108 ?_
  refine lv_iload hx hb dX0_layWorth_111 (lv_at hl 0 rfl) ?_
  refine lv_i2l (v := x7_18.toInt64) hx hb dX0_layWorth_113 rfl ?_
  refine lv_lmul hx hb dX0_layWorth_114 ?_
  refine x0_p37 F C dX0_layWorth_115 (fun H locs s_20 es_20 C => ?_)
  have hw := hw s_20 es_20
  exact x_vret F C hw dX0_layWorth_118
theorem ctX0_layWorth (hE : Em E) (hX : ∀ U, E U → EL U) {post : CS → Prop} {s0 : CS} {p0 p1 : Int32} (hw : wpX0_layWorth  post s0 p0 p1) : CtV l yX0_layWorth (ws_ yX0_layWorth cX0_layWorth 8 none) rmX0_layWorth D d E (wX o ad d) 0 0 [.ref o, .int p0, .int p1] s0 post := by
  refine CtV.of hE (by decide) rfl (Nat.le_of_ble_eq_true rfl) ?_
  intro p e s m below meth c A ls F C hl
  have hl : lv_has ls 8 [(0, .ref o), (1, .int p0), (2, .int p1)] := hl
  unfold wpX0_layWorth at hw
  obtain ⟨hx, hb, hr, hml, hown, hts, hlk, hA, hK, -⟩ := id F
  refine lv_aload_n hx hb dX0_layWorth_0 rfl (lv_at hl 0 rfl) ?_
  refine lv_iload_n hx hb dX0_layWorth_1 rfl (lv_at hl 1 rfl) ?_
  refine lv_iconst (v := 1) hx hb dX0_layWorth_2 (by decide) ?_
  refine lv_iload_n hx hb dX0_layWorth_3 rfl (lv_at hl 2 rfl) ?_
  refine lv_ishl hx hb dX0_layWorth_4 ?_
  refine lv_iconst (v := 1) hx hb dX0_layWorth_5 (by decide) ?_
  refine lv_iload_n hx hb dX0_layWorth_6 rfl (lv_at hl 2 rfl) ?_
  refine lv_ishl hx hb dX0_layWorth_7 ?_
  refine x_callV (rest := []) (ci := 0) (q := (RX0, TX0, 41)) F C (ctX0_laySpread hE hX hw) (cwV 3 hts (lw_V q678 q680 qs33 q70 q681) rfl rfl rfl (by decide +kernel) ⟨Nat.le_of_ble_eq_true rfl, Nat.le_of_ble_eq_true rfl⟩) rfl rfl rfl hl.1 rfl (Nat.le_of_ble_eq_true rfl) dX0_layWorth_8 ⟨Nat.zero_le _, Nat.zero_le _⟩ (fun s_1 H locs hw C => ?_)
  refine lv_aload_n hx hb dX0_layWorth_11 rfl (lv_at hl 0 rfl) ?_
  refine x0_g4 F C dX0_layWorth_12 ?_
  refine lv_topl (fun x3_3 ex3_3 => ?_)
  have hw := hw x3_3 ex3_3
  refine lv_lstore_n (lv' := [(3, .long x3_3), (0, .ref o), (1, .int p0), (2, .int p1)]) hx hb dX0_layWorth_15 rfl hl (by decide) rfl (fun ls hl => ?_)
  refine lv_aload_n hx hb dX0_layWorth_16 rfl (lv_at hl 1 rfl) ?_
  refine x0_g5 F C dX0_layWorth_17 ?_
  refine lv_topl (fun x5_4 ex5_4 => ?_)
  have hw := hw x5_4 ex5_4
  refine lv_lstore (lv' := [(5, .long x5_4), (3, .long x3_3), (0, .ref o), (1, .int p0), (2, .int p1)]) hx hb dX0_layWorth_20 hl (by decide) rfl (fun ls hl => ?_)
  refine lv_aload_n hx hb dX0_layWorth_22 rfl (lv_at hl 2 rfl) ?_
  refine lv_iload_n hx hb dX0_layWorth_23 rfl (lv_at hl 3 rfl) ?_
  refine lv_iconst (v := 1) hx hb dX0_layWorth_24 (by decide) ?_
  refine lv_iload_n hx hb dX0_layWorth_25 rfl (lv_at hl 4 rfl) ?_
  refine lv_ishl hx hb dX0_layWorth_26 ?_
  refine lv_iconst (v := 0) hx hb dX0_layWorth_27 (by decide) ?_
  refine x_callV (rest := []) (ci := 0) (q := (RX0, TX0, 41)) F C (ctX0_laySpread hE hX hw) (cwV 3 hts (lw_V q678 q680 qs33 q70 q681) rfl rfl rfl (by decide +kernel) ⟨Nat.le_of_ble_eq_true rfl, Nat.le_of_ble_eq_true rfl⟩) rfl rfl rfl hl.1 rfl (Nat.le_of_ble_eq_true rfl) dX0_layWorth_28 ⟨Nat.zero_le _, Nat.zero_le _⟩ (fun s_5 H locs hw C => ?_)
  refine lv_aload_n hx hb dX0_layWorth_31 rfl (lv_at hl 2 rfl) ?_
  refine x0_g4 F C dX0_layWorth_32 ?_
  refine lv_aload_n hx hb dX0_layWorth_35 rfl (lv_at hl 2 rfl) ?_
  refine x0_g5 F C dX0_layWorth_36 ?_
  refine lv_lload_n hx hb dX0_layWorth_39 rfl (lv_at hl 1 rfl) ?_
  refine lv_lload hx hb dX0_layWorth_40 (lv_at hl 0 rfl) ?_
  refine x_callSI (rest := []) F C (ctX0_compare hE hw) (va_cwS 4 hts (lw_S q668 q669 q70 q670) rfl rfl rfl (by decide +kernel) ⟨Nat.le_of_ble_eq_true rfl, Nat.le_of_ble_eq_true rfl⟩) rfl hl.1 rfl (Nat.le_of_ble_eq_true rfl) dX0_layWorth_42 ⟨Nat.zero_le _, Nat.zero_le _⟩ (fun r_8 s_7 H locs hw C => ?_)
  refine lv_if_le (tgt := 59) hx hb dX0_layWorth_45 (by decide) (fun c_9 => ?_) (fun c_9 => ?_)
  · have hw := hw.1 c_9
    exact kX0_layWorth_59 hX F  p0 p1 x3_3 x5_4 s_7 _ _ _ hw C (lv_sub hl [2, 3, 4, 1, 0] rfl)
  · have hw := hw.2 c_9
    refine lv_aload_n hx hb dX0_layWorth_48 rfl (lv_at hl 2 rfl) ?_
    refine x0_g4 F C dX0_layWorth_49 ?_
    refine lv_topl (fun x3_21 ex3_21 => ?_)
    have hw := hw x3_21 ex3_21
    refine lv_lstore_n (lv' := [(3, .long x3_21), (5, .long x5_4), (0, .ref o), (1, .int p0), (2, .int p1)]) hx hb dX0_layWorth_52 rfl hl (by decide) rfl (fun ls hl => ?_)
    refine lv_aload_n hx hb dX0_layWorth_53 rfl (lv_at hl 2 rfl) ?_
    refine x0_g5 F C dX0_layWorth_54 ?_
    refine lv_topl (fun x5_22 ex5_22 => ?_)
    have hw := hw x5_22 ex5_22
    refine lv_lstore (lv' := [(5, .long x5_22), (3, .long x3_21), (0, .ref o), (1, .int p0), (2, .int p1)]) hx hb dX0_layWorth_57 hl (by decide) rfl (fun ls hl => ?_)
    exact kX0_layWorth_59 hX F  p0 p1 x3_21 x5_22 s_7 _ _ _ hw C (lv_sub hl [2, 3, 4, 1, 0] rfl)

abbrev rmX0_worth : Room := { frames := 57, cells := 0, slots := 0, locals := 1283 }
def wX0_worth_20  (post : Int32 → CS → Prop)  : Nat → Int32 → Int32 → Int32 → CS → Prop
  | 0 => fun _ _ _ _ => False
  | n + 1 => fun x1 x2 x4 st => (((sI st 31) ≤ x4 → (wpX0_found (fun r_8 s_7 => (post r_8 s_7)) st 3)) ∧ (¬ (sI st 31) ≤ x4 → (vp_in x4 40 ∧ (((sA st 30 x4.toNatClampNeg) = x2 → (wpX0_layWorth (fun s_12 => (wpX0_tells (fun r_15 s_14 => (post r_15 s_14)) s_12 (sL s_12 36) (sL s_12 37))) st x1 x4)) ∧ (¬ (sA st 30 x4.toNatClampNeg) = x2 → (∀ x4_11 : Int32, x4_11 = x4 + 1 → (wX0_worth_20  post  n x1 x2 x4_11 st)))))))
def wpX0_worth  (post : Int32 → CS → Prop) (s0 : CS) (p0 : Int32) (p1 : Int32) : Prop := (wpX0_isLine (fun r_2 s_1 => (wpX0_needOpen (fun r_4 s_3 => ((0 ≤ r_4 → (∃ fu : Nat, wX0_worth_20  post  fu p0 p1 0 s_3)) ∧ (¬ 0 ≤ r_4 → (post r_4 s_3)))) s_1 r_2 p0)) s0 p1)
set_option maxHeartbeats 4000000 in
theorem kX0_worth_20 (hX : ∀ U, E U → EL U) {post : Int32 → CS → Prop}  (F : Fx p s m args meth c cX0_worth 5 RX0 (some .int) D d E A) : ∀ (fu : Nat) (x1 : Int32) (x2 : Int32) (x4 : Int32) (st : CS) (H : Heap) (locs : List Loc) (ls : Array Slot), wX0_worth_20  post  fu x1 x2 x4 st → Cx D (wX o ad d) A s st H locs → lv_has ls 5 [(0, .ref o), (1, .int x1), (2, .int x2), (4, .int x4)] → W p l e (headSpec (ws_ yX0_worth cX0_worth 5 (some .int)) rmX0_worth).room s m args below meth c H locs 0 0 (QI below D d E (wX o ad d) A args s 0 0 post) (F0 m 20 ls []) := by
  obtain ⟨hx, hb, hr, hml, hown, hts, hlk, hA, hK, hE⟩ := id F
  intro fu
  induction fu with
  | zero =>
    intro x1 x2 x4 st H locs ls hw
    exact hw.elim
  | succ n ih =>
    have hk20 := ih
    intro x1 x2 x4 st H locs ls hw C hl
    unfold wX0_worth_20 at hw
    refine lv_iload hx hb dX0_worth_20 (lv_at hl 3 rfl) ?_
    refine lv_aload_n hx hb dX0_worth_22 rfl (lv_at hl 0 rfl) ?_
    refine x0_g31 F C dX0_worth_23 ?_
    refine lv_icmp_ge (tgt := 66) hx hb dX0_worth_26 (by decide) (fun c_6 => ?_) (fun c_6 => ?_)
    · have hw := hw.1 c_6
      refine lv_aload_n hx hb dX0_worth_66 rfl (lv_at hl 0 rfl) ?_
      refine lv_iconst (v := 3) hx hb dX0_worth_67 (by decide) ?_
      refine x_callI (rest := []) (ci := 0) (q := (RX0, TX0, 41)) F C (ctX0_found hE hX hw) (cwV 1 hts (lw_V q467 q469 qs7 q70 q470) rfl rfl rfl (by decide +kernel) ⟨Nat.le_of_ble_eq_true rfl, Nat.le_of_ble_eq_true rfl⟩) rfl rfl rfl hl.1 rfl (Nat.le_of_ble_eq_true rfl) dX0_worth_68 ⟨Nat.zero_le _, Nat.zero_le _⟩ (fun r_8 s_7 H locs hw C => ?_)
      exact x_iret F C hw dX0_worth_71
    · have hw := hw.2 c_6
      refine lv_aload_n hx hb dX0_worth_29 rfl (lv_at hl 0 rfl) ?_
      refine x0_g30 F C dX0_worth_30 ?_
      refine lv_iload hx hb dX0_worth_33 (lv_at hl 3 rfl) ?_
      obtain ⟨h_9, hw⟩ := hw
      refine x0_ld30 F C h_9 dX0_worth_35 ?_
      refine lv_iload_n hx hb dX0_worth_36 rfl (lv_at hl 2 rfl) ?_
      refine lv_icmp_ne (tgt := 60) hx hb dX0_worth_37 (by decide) (fun c_10 => ?_) (fun c_10 => ?_)
      · have hw := hw.2 c_10
        obtain ⟨x4_11, ex4_11⟩ : ∃ y : Int32, y = x4 + 1 := ⟨_, rfl⟩
        have hw := hw x4_11 ex4_11
        refine lv_iinc (v := x4_11) (lv' := [(4, .int x4_11), (0, .ref o), (1, .int x1), (2, .int x2)]) hx hb dX0_worth_60 hl (k := 3) rfl (by rw [ex4_11]; rfl) (by decide) rfl (fun ls hl => ?_)
        refine lv_goto (tgt := 20) hx hb dX0_worth_63 (by decide) ?_
        exact hk20 x1 x2 x4_11 st _ _ _ hw C (lv_sub hl [1, 2, 3, 0] rfl)
      · have hw := hw.1 c_10
        refine lv_aload_n hx hb dX0_worth_40 rfl (lv_at hl 0 rfl) ?_
        refine lv_iload_n hx hb dX0_worth_41 rfl (lv_at hl 1 rfl) ?_
        refine lv_iload hx hb dX0_worth_42 (lv_at hl 3 rfl) ?_
        refine x_callV (rest := []) (ci := 0) (q := (RX0, TX0, 41)) F C (ctX0_layWorth hE hX hw) (cwV 2 hts (lw_V q686 q688 qs34 q70 q689) rfl rfl rfl (by decide +kernel) ⟨Nat.le_of_ble_eq_true rfl, Nat.le_of_ble_eq_true rfl⟩) rfl rfl rfl hl.1 rfl (Nat.le_of_ble_eq_true rfl) dX0_worth_44 ⟨Nat.zero_le _, Nat.zero_le _⟩ (fun s_12 H locs hw C => ?_)
        refine lv_aload_n hx hb dX0_worth_47 rfl (lv_at hl 0 rfl) ?_
        refine lv_aload_n hx hb dX0_worth_48 rfl (lv_at hl 0 rfl) ?_
        refine x0_g36 F C dX0_worth_49 ?_
        refine lv_aload_n hx hb dX0_worth_52 rfl (lv_at hl 0 rfl) ?_
        refine x0_g37 F C dX0_worth_53 ?_
        refine x_callI (rest := []) (ci := 0) (q := (RX0, TX0, 41)) F C (ctX0_tells hE hX hw) (cwV 2 hts (lw_V q620 q622 qs28 q70 q623) rfl rfl rfl (by decide +kernel) ⟨Nat.le_of_ble_eq_true rfl, Nat.le_of_ble_eq_true rfl⟩) rfl rfl rfl hl.1 rfl (Nat.le_of_ble_eq_true rfl) dX0_worth_56 ⟨Nat.zero_le _, Nat.zero_le _⟩ (fun r_15 s_14 H locs hw C => ?_)
        exact x_iret F C hw dX0_worth_59
theorem ctX0_worth (hE : Em E) (hX : ∀ U, E U → EL U) {post : Int32 → CS → Prop} {s0 : CS} {p0 p1 : Int32} (hw : wpX0_worth  post s0 p0 p1) : CtI l yX0_worth (ws_ yX0_worth cX0_worth 5 (some .int)) rmX0_worth D d E (wX o ad d) 0 0 [.ref o, .int p0, .int p1] s0 post := by
  refine CtI.of hE (by decide) rfl (Nat.le_of_ble_eq_true rfl) ?_
  intro p e s m below meth c A ls F C hl
  have hl : lv_has ls 5 [(0, .ref o), (1, .int p0), (2, .int p1)] := hl
  unfold wpX0_worth at hw
  obtain ⟨hx, hb, hr, hml, hown, hts, hlk, hA, hK, -⟩ := id F
  refine lv_aload_n hx hb dX0_worth_0 rfl (lv_at hl 0 rfl) ?_
  refine lv_aload_n hx hb dX0_worth_1 rfl (lv_at hl 0 rfl) ?_
  refine lv_iload_n hx hb dX0_worth_2 rfl (lv_at hl 2 rfl) ?_
  refine x_callI (rest := [.ref o]) (ci := 0) (q := (RX0, TX0, 41)) F C (ctX0_isLine hE hX hw) (cwV 1 hts (lw_V q336 q338 qs3 q70 q339) rfl rfl rfl (by decide +kernel) ⟨Nat.le_of_ble_eq_true rfl, Nat.le_of_ble_eq_true rfl⟩) rfl rfl rfl hl.1 rfl (Nat.le_of_ble_eq_true rfl) dX0_worth_3 ⟨Nat.zero_le _, Nat.zero_le _⟩ (fun r_2 s_1 H locs hw C => ?_)
  refine lv_iload_n hx hb dX0_worth_6 rfl (lv_at hl 1 rfl) ?_
  refine x_callI (rest := []) (ci := 0) (q := (RX0, TX0, 41)) F C (ctX0_needOpen hE hX hw) (cwV 2 hts (lw_V q656 q658 qs30 q70 q659) rfl rfl rfl (by decide +kernel) ⟨Nat.le_of_ble_eq_true rfl, Nat.le_of_ble_eq_true rfl⟩) rfl rfl rfl hl.1 rfl (Nat.le_of_ble_eq_true rfl) dX0_worth_7 ⟨Nat.zero_le _, Nat.zero_le _⟩ (fun r_4 s_3 H locs hw C => ?_)
  refine lv_istore_n (lv' := [(3, .int r_4), (0, .ref o), (1, .int p0), (2, .int p1)]) hx hb dX0_worth_10 rfl hl (by decide) rfl (fun ls hl => ?_)
  refine lv_iload_n hx hb dX0_worth_11 rfl (lv_at hl 0 rfl) ?_
  refine lv_if_ge (tgt := 17) hx hb dX0_worth_12 (by decide) (fun c_5 => ?_) (fun c_5 => ?_)
  · have hw := hw.1 c_5
    refine lv_iconst (v := 0) hx hb dX0_worth_17 (by decide) ?_
    refine lv_istore (lv' := [(4, .int 0), (3, .int r_4), (0, .ref o), (1, .int p0), (2, .int p1)]) hx hb dX0_worth_18 hl (by decide) rfl (fun ls hl => ?_)
    obtain ⟨fu, hw⟩ := hw
    exact kX0_worth_20 hX F  fu p0 p1 0 s_3 _ _ _ hw C (lv_sub hl [2, 3, 4, 0] rfl)
  · have hw := hw.2 c_5
    refine lv_iload_n hx hb dX0_worth_15 rfl (lv_at hl 0 rfl) ?_
    exact x_iret F C hw dX0_worth_16

abbrev rmX0_look : Room := { frames := 57, cells := 0, slots := 0, locals := 1283 }
def wX0_look_85  (post : Int32 → CS → Prop) (k25 : Int32 → Int32 → Int64 → Int64 → Int32 → CS → Prop) (x1 : Int32) (x3 : Int32) (x4 : Int64) (x6 : Int64) (x8 : Int32) (st : CS) : Prop := (∀ x8_12 : Int32, x8_12 = x8 + 1 → (k25 x1 x3 x4 x6 x8_12 st))
def wX0_look_65  (post : Int32 → CS → Prop) (k25 : Int32 → Int32 → Int64 → Int64 → Int32 → CS → Prop) (x1 : Int32) (x8 : Int32) (st : CS) : Prop := (vp_in x8 40 ∧ (∀ x3_9 : Int32, x3_9 = (sA st 30 x8.toNatClampNeg) → (∀ x4_10 : Int64, x4_10 = (sL st 36) → (∀ x6_11 : Int64, x6_11 = (sL st 37) → (wX0_look_85  post k25 x1 x3_9 x4_10 x6_11 x8 st)))))
def wX0_look_25  (post : Int32 → CS → Prop)  : Nat → Int32 → Int32 → Int64 → Int64 → Int32 → CS → Prop
  | 0 => fun _ _ _ _ _ _ => False
  | n + 1 => fun x1 x3 x4 x6 x8 st => (((sI st 31) ≤ x8 → (post x3 st)) ∧ (¬ (sI st 31) ≤ x8 → (wpX0_layWorth (fun s_5 => ((x3 = (-9) → (wX0_look_65  post (wX0_look_25  post  n) x1 x8 s_5)) ∧ (¬ x3 = (-9) → (wpX0_compare (fun r_14 s_13 => ((r_14 ≤ 0 → (wX0_look_85  post (wX0_look_25  post  n) x1 x3 x4 x6 x8 s_13)) ∧ (¬ r_14 ≤ 0 → (wX0_look_65  post (wX0_look_25  post  n) x1 x8 s_13)))) s_5 (sL s_5 36) (sL s_5 37) x4 x6)))) st x1 x8)))
def wpX0_look  (post : Int32 → CS → Prop) (s0 : CS) (p0 : Int32) : Prop := (wpX0_needOpen (fun r_2 s_1 => ((0 ≤ r_2 → (∃ fu : Nat, wX0_look_25  post  fu p0 (-9) 0 1 0 s_1)) ∧ (¬ 0 ≤ r_2 → (post r_2 s_1)))) s0 1 p0)
set_option maxHeartbeats 4000000 in
theorem kX0_look_85 (hX : ∀ U, E U → EL U) {post : Int32 → CS → Prop} {k25 : Int32 → Int32 → Int64 → Int64 → Int32 → CS → Prop} (F : Fx p s m args meth c cX0_look 9 RX0 (some .int) D d E A) (hk25 : ∀ (x1 : Int32) (x3 : Int32) (x4 : Int64) (x6 : Int64) (x8 : Int32) (st : CS) (H : Heap) (locs : List Loc) (ls : Array Slot), k25 x1 x3 x4 x6 x8 st → Cx D (wX o ad d) A s st H locs → lv_has ls 9 [(0, .ref o), (1, .int x1), (3, .int x3), (4, .long x4), (6, .long x6), (8, .int x8)] → W p l e (headSpec (ws_ yX0_look cX0_look 9 (some .int)) rmX0_look).room s m args below meth c H locs 0 0 (QI below D d E (wX o ad d) A args s 0 0 post) (F0 m 25 ls [])) : ∀ (x1 : Int32) (x3 : Int32) (x4 : Int64) (x6 : Int64) (x8 : Int32) (st : CS) (H : Heap) (locs : List Loc) (ls : Array Slot), wX0_look_85  post k25 x1 x3 x4 x6 x8 st → Cx D (wX o ad d) A s st H locs → lv_has ls 9 [(0, .ref o), (1, .int x1), (3, .int x3), (4, .long x4), (6, .long x6), (8, .int x8)] → W p l e (headSpec (ws_ yX0_look cX0_look 9 (some .int)) rmX0_look).room s m args below meth c H locs 0 0 (QI below D d E (wX o ad d) A args s 0 0 post) (F0 m 85 ls []) := by
  obtain ⟨hx, hb, hr, hml, hown, hts, hlk, hA, hK, hE⟩ := id F
  intro x1 x3 x4 x6 x8 st H locs ls hw C hl
  unfold wX0_look_85 at hw
  obtain ⟨x8_12, ex8_12⟩ : ∃ y : Int32, y = x8 + 1 := ⟨_, rfl⟩
  have hw := hw x8_12 ex8_12
  refine lv_iinc (v := x8_12) (lv' := [(8, .int x8_12), (0, .ref o), (1, .int x1), (3, .int x3), (4, .long x4), (6, .long x6)]) hx hb dX0_look_85 hl (k := 5) rfl (by rw [ex8_12]; rfl) (by decide) rfl (fun ls hl => ?_)
  refine lv_goto (tgt := 25) hx hb dX0_look_88 (by decide) ?_
  exact hk25 x1 x3 x4 x6 x8_12 st _ _ _ hw C (lv_sub hl [1, 2, 3, 4, 5, 0] rfl)
set_option maxHeartbeats 4000000 in
theorem kX0_look_65 (hX : ∀ U, E U → EL U) {post : Int32 → CS → Prop} {k25 : Int32 → Int32 → Int64 → Int64 → Int32 → CS → Prop} (F : Fx p s m args meth c cX0_look 9 RX0 (some .int) D d E A) (hk25 : ∀ (x1 : Int32) (x3 : Int32) (x4 : Int64) (x6 : Int64) (x8 : Int32) (st : CS) (H : Heap) (locs : List Loc) (ls : Array Slot), k25 x1 x3 x4 x6 x8 st → Cx D (wX o ad d) A s st H locs → lv_has ls 9 [(0, .ref o), (1, .int x1), (3, .int x3), (4, .long x4), (6, .long x6), (8, .int x8)] → W p l e (headSpec (ws_ yX0_look cX0_look 9 (some .int)) rmX0_look).room s m args below meth c H locs 0 0 (QI below D d E (wX o ad d) A args s 0 0 post) (F0 m 25 ls [])) : ∀ (x1 : Int32) (x8 : Int32) (st : CS) (H : Heap) (locs : List Loc) (ls : Array Slot), wX0_look_65  post k25 x1 x8 st → Cx D (wX o ad d) A s st H locs → lv_has ls 9 [(0, .ref o), (1, .int x1), (8, .int x8)] → W p l e (headSpec (ws_ yX0_look cX0_look 9 (some .int)) rmX0_look).room s m args below meth c H locs 0 0 (QI below D d E (wX o ad d) A args s 0 0 post) (F0 m 65 ls []) := by
  obtain ⟨hx, hb, hr, hml, hown, hts, hlk, hA, hK, hE⟩ := id F
  intro x1 x8 st H locs ls hw C hl
  unfold wX0_look_65 at hw
  refine lv_aload_n hx hb dX0_look_65 rfl (lv_at hl 0 rfl) ?_
  refine x0_g30 F C dX0_look_66 ?_
  refine lv_iload hx hb dX0_look_69 (lv_at hl 2 rfl) ?_
  obtain ⟨h_8, hw⟩ := hw
  refine x0_ld30 F C h_8 dX0_look_71 ?_
  refine lv_topi (fun x3_9 ex3_9 => ?_)
  have hw := hw x3_9 ex3_9
  refine lv_istore_n (lv' := [(3, .int x3_9), (0, .ref o), (1, .int x1), (8, .int x8)]) hx hb dX0_look_72 rfl hl (by decide) rfl (fun ls hl => ?_)
  refine lv_aload_n hx hb dX0_look_73 rfl (lv_at hl 1 rfl) ?_
  refine x0_g36 F C dX0_look_74 ?_
  refine lv_topl (fun x4_10 ex4_10 => ?_)
  have hw := hw x4_10 ex4_10
  refine lv_lstore (lv' := [(4, .long x4_10), (3, .int x3_9), (0, .ref o), (1, .int x1), (8, .int x8)]) hx hb dX0_look_77 hl (by decide) rfl (fun ls hl => ?_)
  refine lv_aload_n hx hb dX0_look_79 rfl (lv_at hl 2 rfl) ?_
  refine x0_g37 F C dX0_look_80 ?_
  refine lv_topl (fun x6_11 ex6_11 => ?_)
  have hw := hw x6_11 ex6_11
  refine lv_lstore (lv' := [(6, .long x6_11), (4, .long x4_10), (3, .int x3_9), (0, .ref o), (1, .int x1), (8, .int x8)]) hx hb dX0_look_83 hl (by decide) rfl (fun ls hl => ?_)
  exact kX0_look_85 hX F hk25 x1 x3_9 x4_10 x6_11 x8 st _ _ _ hw C (lv_sub hl [3, 4, 2, 1, 0, 5] rfl)
set_option maxHeartbeats 4000000 in
theorem kX0_look_25 (hX : ∀ U, E U → EL U) {post : Int32 → CS → Prop}  (F : Fx p s m args meth c cX0_look 9 RX0 (some .int) D d E A) : ∀ (fu : Nat) (x1 : Int32) (x3 : Int32) (x4 : Int64) (x6 : Int64) (x8 : Int32) (st : CS) (H : Heap) (locs : List Loc) (ls : Array Slot), wX0_look_25  post  fu x1 x3 x4 x6 x8 st → Cx D (wX o ad d) A s st H locs → lv_has ls 9 [(0, .ref o), (1, .int x1), (3, .int x3), (4, .long x4), (6, .long x6), (8, .int x8)] → W p l e (headSpec (ws_ yX0_look cX0_look 9 (some .int)) rmX0_look).room s m args below meth c H locs 0 0 (QI below D d E (wX o ad d) A args s 0 0 post) (F0 m 25 ls []) := by
  obtain ⟨hx, hb, hr, hml, hown, hts, hlk, hA, hK, hE⟩ := id F
  intro fu
  induction fu with
  | zero =>
    intro x1 x3 x4 x6 x8 st H locs ls hw
    exact hw.elim
  | succ n ih =>
    have hk25 := ih
    intro x1 x3 x4 x6 x8 st H locs ls hw C hl
    unfold wX0_look_25 at hw
    refine lv_iload hx hb dX0_look_25 (lv_at hl 5 rfl) ?_
    refine lv_aload_n hx hb dX0_look_27 rfl (lv_at hl 0 rfl) ?_
    refine x0_g31 F C dX0_look_28 ?_
    refine lv_icmp_ge (tgt := 91) hx hb dX0_look_31 (by decide) (fun c_4 => ?_) (fun c_4 => ?_)
    · have hw := hw.1 c_4
      refine lv_iload_n hx hb dX0_look_91 rfl (lv_at hl 2 rfl) ?_
      exact x_iret F C hw dX0_look_92
    · have hw := hw.2 c_4
      refine lv_aload_n hx hb dX0_look_34 rfl (lv_at hl 0 rfl) ?_
      refine lv_iload_n hx hb dX0_look_35 rfl (lv_at hl 1 rfl) ?_
      refine lv_iload hx hb dX0_look_36 (lv_at hl 5 rfl) ?_
      refine x_callV (rest := []) (ci := 0) (q := (RX0, TX0, 41)) F C (ctX0_layWorth hE hX hw) (cwV 2 hts (lw_V q686 q688 qs34 q70 q689) rfl rfl rfl (by decide +kernel) ⟨Nat.le_of_ble_eq_true rfl, Nat.le_of_ble_eq_true rfl⟩) rfl rfl rfl hl.1 rfl (Nat.le_of_ble_eq_true rfl) dX0_look_38 ⟨Nat.zero_le _, Nat.zero_le _⟩ (fun s_5 H locs hw C => ?_)
      refine lv_iload_n hx hb dX0_look_41 rfl (lv_at hl 2 rfl) ?_
      refine lv_bipush (v := (-9)) hx hb dX0_look_42 (by decide) ?_
      refine lv_icmp_eq (tgt := 65) hx hb dX0_look_44 (by decide) (fun c_7 => ?_) (fun c_7 => ?_)
      · have hw := hw.1 c_7
        exact kX0_look_65 hX F hk25 x1 x8 s_5 _ _ _ hw C (lv_sub hl [0, 1, 5] rfl)
      · have hw := hw.2 c_7
        refine lv_aload_n hx hb dX0_look_47 rfl (lv_at hl 0 rfl) ?_
        refine x0_g36 F C dX0_look_48 ?_
        refine lv_aload_n hx hb dX0_look_51 rfl (lv_at hl 0 rfl) ?_
        refine x0_g37 F C dX0_look_52 ?_
        refine lv_lload hx hb dX0_look_55 (lv_at hl 3 rfl) ?_
        refine lv_lload hx hb dX0_look_57 (lv_at hl 4 rfl) ?_
        refine x_callSI (rest := []) F C (ctX0_compare hE hw) (va_cwS 4 hts (lw_S q668 q669 q70 q670) rfl rfl rfl (by decide +kernel) ⟨Nat.le_of_ble_eq_true rfl, Nat.le_of_ble_eq_true rfl⟩) rfl hl.1 rfl (Nat.le_of_ble_eq_true rfl) dX0_look_59 ⟨Nat.zero_le _, Nat.zero_le _⟩ (fun r_14 s_13 H locs hw C => ?_)
        refine lv_if_le (tgt := 85) hx hb dX0_look_62 (by decide) (fun c_15 => ?_) (fun c_15 => ?_)
        · have hw := hw.1 c_15
          exact kX0_look_85 hX F hk25 x1 x3 x4 x6 x8 s_13 _ _ _ hw C hl
        · have hw := hw.2 c_15
          exact kX0_look_65 hX F hk25 x1 x8 s_13 _ _ _ hw C (lv_sub hl [0, 1, 5] rfl)
theorem ctX0_look (hE : Em E) (hX : ∀ U, E U → EL U) {post : Int32 → CS → Prop} {s0 : CS} {p0 : Int32} (hw : wpX0_look  post s0 p0) : CtI l yX0_look (ws_ yX0_look cX0_look 9 (some .int)) rmX0_look D d E (wX o ad d) 0 0 [.ref o, .int p0] s0 post := by
  refine CtI.of hE (by decide) rfl (Nat.le_of_ble_eq_true rfl) ?_
  intro p e s m below meth c A ls F C hl
  have hl : lv_has ls 9 [(0, .ref o), (1, .int p0)] := hl
  unfold wpX0_look at hw
  obtain ⟨hx, hb, hr, hml, hown, hts, hlk, hA, hK, -⟩ := id F
  refine lv_aload_n hx hb dX0_look_0 rfl (lv_at hl 0 rfl) ?_
  refine lv_iconst (v := 1) hx hb dX0_look_1 (by decide) ?_
  refine lv_iload_n hx hb dX0_look_2 rfl (lv_at hl 1 rfl) ?_
  refine x_callI (rest := []) (ci := 0) (q := (RX0, TX0, 41)) F C (ctX0_needOpen hE hX hw) (cwV 2 hts (lw_V q656 q658 qs30 q70 q659) rfl rfl rfl (by decide +kernel) ⟨Nat.le_of_ble_eq_true rfl, Nat.le_of_ble_eq_true rfl⟩) rfl rfl rfl hl.1 rfl (Nat.le_of_ble_eq_true rfl) dX0_look_3 ⟨Nat.zero_le _, Nat.zero_le _⟩ (fun r_2 s_1 H locs hw C => ?_)
  refine lv_istore_n (lv' := [(2, .int r_2), (0, .ref o), (1, .int p0)]) hx hb dX0_look_6 rfl hl (by decide) rfl (fun ls hl => ?_)
  refine lv_iload_n hx hb dX0_look_7 rfl (lv_at hl 0 rfl) ?_
  refine lv_if_ge (tgt := 13) hx hb dX0_look_8 (by decide) (fun c_3 => ?_) (fun c_3 => ?_)
  · have hw := hw.1 c_3
    refine lv_bipush (v := (-9)) hx hb dX0_look_13 (by decide) ?_
    refine lv_istore_n (lv' := [(3, .int (-9)), (2, .int r_2), (0, .ref o), (1, .int p0)]) hx hb dX0_look_15 rfl hl (by decide) rfl (fun ls hl => ?_)
    refine lv_lconst (v := 0) hx hb dX0_look_16 (by decide) ?_
    refine lv_lstore (lv' := [(4, .long 0), (3, .int (-9)), (2, .int r_2), (0, .ref o), (1, .int p0)]) hx hb dX0_look_17 hl (by decide) rfl (fun ls hl => ?_)
    refine lv_lconst (v := 1) hx hb dX0_look_19 (by decide) ?_
    refine lv_lstore (lv' := [(6, .long 1), (4, .long 0), (3, .int (-9)), (2, .int r_2), (0, .ref o), (1, .int p0)]) hx hb dX0_look_20 hl (by decide) rfl (fun ls hl => ?_)
    refine lv_iconst (v := 0) hx hb dX0_look_22 (by decide) ?_
    refine lv_istore (lv' := [(8, .int 0), (6, .long 1), (4, .long 0), (3, .int (-9)), (2, .int r_2), (0, .ref o), (1, .int p0)]) hx hb dX0_look_23 hl (by decide) rfl (fun ls hl => ?_)
    obtain ⟨fu, hw⟩ := hw
    exact kX0_look_25 hX F  fu p0 (-9) 0 1 0 s_1 _ _ _ hw C (lv_sub hl [5, 6, 3, 2, 1, 0] rfl)
  · have hw := hw.2 c_3
    refine lv_iload_n hx hb dX0_look_11 rfl (lv_at hl 0 rfl) ?_
    exact x_iret F C hw dX0_look_12

abbrev rmX0_estate : Room := { frames := 3, cells := 0, slots := 0, locals := 64 }
def wpX0_estate  (post : Int32 → CS → Prop) (s0 : CS) (p0 : Int32) (p1 : Int32) : Prop := (wpX0_isDead (fun r_2 s_1 => ((r_2 = 0 → (post (-1) s_1)) ∧ (¬ r_2 = 0 → (wpX0_in (fun r_5 s_4 => ((r_5 = 0 → (post (-1) s_4)) ∧ (¬ r_5 = 0 → (vp_in p0 24 ∧ (∀ x3_8 : Int32, x3_8 = (sA s_4 38 p0.toNatClampNeg) → (vp_in p0 24 ∧ ∀ s_10 : CS, s_10 = uA s_4 38 p0.toNatClampNeg p1 → (post x3_8 s_10))))))) s_1 p1 0 1000000000)))) s0 p0)
theorem ctX0_estate (hE : Em E) (hX : ∀ U, E U → EL U) {post : Int32 → CS → Prop} {s0 : CS} {p0 p1 : Int32} (hw : wpX0_estate  post s0 p0 p1) : CtI l yX0_estate (ws_ yX0_estate cX0_estate 4 (some .int)) rmX0_estate D d E (wX o ad d) 0 0 [.ref o, .int p0, .int p1] s0 post := by
  refine CtI.of hE (by decide) rfl (Nat.le_of_ble_eq_true rfl) ?_
  intro p e s m below meth c A ls F C hl
  have hl : lv_has ls 4 [(0, .ref o), (1, .int p0), (2, .int p1)] := hl
  unfold wpX0_estate at hw
  obtain ⟨hx, hb, hr, hml, hown, hts, hlk, hA, hK, -⟩ := id F
  refine lv_aload_n hx hb dX0_estate_0 rfl (lv_at hl 0 rfl) ?_
  refine lv_iload_n hx hb dX0_estate_1 rfl (lv_at hl 1 rfl) ?_
  refine x_callI (rest := []) (ci := 0) (q := (RX0, TX0, 41)) F C (ctX0_isDead hE hX hw) (cwV 1 hts (lw_V q512 q514 qs9 q70 q515) rfl rfl rfl (by decide +kernel) ⟨Nat.le_of_ble_eq_true rfl, Nat.le_of_ble_eq_true rfl⟩) rfl rfl rfl hl.1 rfl (Nat.le_of_ble_eq_true rfl) dX0_estate_2 ⟨Nat.zero_le _, Nat.zero_le _⟩ (fun r_2 s_1 H locs hw C => ?_)
  refine lv_if_eq (tgt := 19) hx hb dX0_estate_5 (by decide) (fun c_3 => ?_) (fun c_3 => ?_)
  · have hw := hw.1 c_3
    refine lv_iconst (v := (-1)) hx hb dX0_estate_19 (by decide) ?_
    exact x_iret F C hw dX0_estate_20
  · have hw := hw.2 c_3
    refine lv_iload_n hx hb dX0_estate_8 rfl (lv_at hl 2 rfl) ?_
    refine lv_iconst (v := 0) hx hb dX0_estate_9 (by decide) ?_
    refine lv_ldcw hx hb hown (hts _ q706) dX0_estate_10 ?_
    refine x_callSI (rest := []) F C (ctX0_in hE hw) (va_cwS 3 hts (lw_S q240 q241 q70 q242) rfl rfl rfl (by decide +kernel) ⟨Nat.le_of_ble_eq_true rfl, Nat.le_of_ble_eq_true rfl⟩) rfl hl.1 rfl (Nat.le_of_ble_eq_true rfl) dX0_estate_13 ⟨Nat.zero_le _, Nat.zero_le _⟩ (fun r_5 s_4 H locs hw C => ?_)
    refine lv_if_ne (tgt := 21) hx hb dX0_estate_16 (by decide) (fun c_6 => ?_) (fun c_6 => ?_)
    · have hw := hw.2 c_6
      refine lv_aload_n hx hb dX0_estate_21 rfl (lv_at hl 0 rfl) ?_
      refine x0_g38 F C dX0_estate_22 ?_
      refine lv_iload_n hx hb dX0_estate_25 rfl (lv_at hl 1 rfl) ?_
      obtain ⟨h_7, hw⟩ := hw
      refine x0_ld38 F C h_7 dX0_estate_26 ?_
      refine lv_topi (fun x3_8 ex3_8 => ?_)
      have hw := hw x3_8 ex3_8
      refine lv_istore_n (lv' := [(3, .int x3_8), (0, .ref o), (1, .int p0), (2, .int p1)]) hx hb dX0_estate_27 rfl hl (by decide) rfl (fun ls hl => ?_)
      refine lv_aload_n hx hb dX0_estate_28 rfl (lv_at hl 1 rfl) ?_
      refine x0_g38 F C dX0_estate_29 ?_
      refine lv_iload_n hx hb dX0_estate_32 rfl (lv_at hl 2 rfl) ?_
      refine lv_iload_n hx hb dX0_estate_33 rfl (lv_at hl 3 rfl) ?_
      obtain ⟨h_9, hw⟩ := hw
      refine x0_st38 F C h_9 dX0_estate_34 (fun H locs s_10 es_10 C => ?_)
      have hw := hw s_10 es_10
      refine lv_iload_n hx hb dX0_estate_35 rfl (lv_at hl 0 rfl) ?_
      exact x_iret F C hw dX0_estate_36
    · have hw := hw.1 c_6
      refine lv_iconst (v := (-1)) hx hb dX0_estate_19 (by decide) ?_
      exact x_iret F C hw dX0_estate_20

abbrev rmX0_paidOf : Room := { frames := 0, cells := 0, slots := 0, locals := 0 }
def wX0_paidOf_5  (post : Int64 → CS → Prop)  : Nat → Int32 → Int64 → Int32 → CS → Prop
  | 0 => fun _ _ _ _ => False
  | n + 1 => fun x1 x2 x4 st => ((24 ≤ x4 → (post x2 st)) ∧ (¬ 24 ≤ x4 → (vp_in ((24 * x1) + x4) 576 ∧ (∀ x2_3 : Int64, x2_3 = (x2 + ((sA st 39 ((24 * x1) + x4).toNatClampNeg).toInt64)) → (∀ x4_4 : Int32, x4_4 = x4 + 1 → (wX0_paidOf_5  post  n x1 x2_3 x4_4 st))))))
def wpX0_paidOf  (post : Int64 → CS → Prop) (s0 : CS) (p0 : Int32) : Prop := (∃ fu : Nat, wX0_paidOf_5  post  fu p0 0 0 s0)
set_option maxHeartbeats 4000000 in
theorem kX0_paidOf_5 (hX : ∀ U, E U → EL U) {post : Int64 → CS → Prop}  (F : Fx p s m args meth c cX0_paidOf 5 RX0 (some .long) D d E A) : ∀ (fu : Nat) (x1 : Int32) (x2 : Int64) (x4 : Int32) (st : CS) (H : Heap) (locs : List Loc) (ls : Array Slot), wX0_paidOf_5  post  fu x1 x2 x4 st → Cx D (wX o ad d) A s st H locs → lv_has ls 5 [(0, .ref o), (1, .int x1), (2, .long x2), (4, .int x4)] → W p l e (headSpec (ws_ yX0_paidOf cX0_paidOf 5 (some .long)) rmX0_paidOf).room s m args below meth c H locs 0 0 (QL below D d E (wX o ad d) A args s 0 0 post) (F0 m 5 ls []) := by
  obtain ⟨hx, hb, hr, hml, hown, hts, hlk, hA, hK, hE⟩ := id F
  intro fu
  induction fu with
  | zero =>
    intro x1 x2 x4 st H locs ls hw
    exact hw.elim
  | succ n ih =>
    have hk5 := ih
    intro x1 x2 x4 st H locs ls hw C hl
    unfold wX0_paidOf_5 at hw
    refine lv_iload hx hb dX0_paidOf_5 (lv_at hl 3 rfl) ?_
    refine lv_bipush (v := 24) hx hb dX0_paidOf_7 (by decide) ?_
    refine lv_icmp_ge (tgt := 34) hx hb dX0_paidOf_9 (by decide) (fun c_1 => ?_) (fun c_1 => ?_)
    · have hw := hw.1 c_1
      refine lv_lload_n hx hb dX0_paidOf_34 rfl (lv_at hl 2 rfl) ?_
      exact x_lret F C hw dX0_paidOf_35
    · have hw := hw.2 c_1
      refine lv_lload_n hx hb dX0_paidOf_12 rfl (lv_at hl 2 rfl) ?_
      refine lv_aload_n hx hb dX0_paidOf_13 rfl (lv_at hl 0 rfl) ?_
      refine x0_g39 F C dX0_paidOf_14 ?_
      refine lv_bipush (v := 24) hx hb dX0_paidOf_17 (by decide) ?_
      refine lv_iload_n hx hb dX0_paidOf_19 rfl (lv_at hl 1 rfl) ?_
      refine lv_imul hx hb dX0_paidOf_20 ?_
      refine lv_iload hx hb dX0_paidOf_21 (lv_at hl 3 rfl) ?_
      refine lv_iadd hx hb dX0_paidOf_23 ?_
      obtain ⟨h_2, hw⟩ := hw
      refine x0_ld39 F C h_2 dX0_paidOf_24 ?_
      refine lv_i2l (v := (sA st 39 ((24 * x1) + x4).toNatClampNeg).toInt64) hx hb dX0_paidOf_25 rfl ?_
      refine lv_ladd hx hb dX0_paidOf_26 ?_
      refine lv_topl (fun x2_3 ex2_3 => ?_)
      have hw := hw x2_3 ex2_3
      refine lv_lstore_n (lv' := [(2, .long x2_3), (0, .ref o), (1, .int x1), (4, .int x4)]) hx hb dX0_paidOf_27 rfl hl (by decide) rfl (fun ls hl => ?_)
      obtain ⟨x4_4, ex4_4⟩ : ∃ y : Int32, y = x4 + 1 := ⟨_, rfl⟩
      have hw := hw x4_4 ex4_4
      refine lv_iinc (v := x4_4) (lv' := [(4, .int x4_4), (2, .long x2_3), (0, .ref o), (1, .int x1)]) hx hb dX0_paidOf_28 hl (k := 3) rfl (by rw [ex4_4]; rfl) (by decide) rfl (fun ls hl => ?_)
      refine lv_goto (tgt := 5) hx hb dX0_paidOf_31 (by decide) ?_
      exact hk5 x1 x2_3 x4_4 st _ _ _ hw C (lv_sub hl [2, 3, 1, 0] rfl)
theorem ctX0_paidOf (hE : Em E) (hX : ∀ U, E U → EL U) {post : Int64 → CS → Prop} {s0 : CS} {p0 : Int32} (hw : wpX0_paidOf  post s0 p0) : CtL l yX0_paidOf (ws_ yX0_paidOf cX0_paidOf 5 (some .long)) rmX0_paidOf D d E (wX o ad d) 0 0 [.ref o, .int p0] s0 post := by
  refine CtL.of hE (by decide) rfl (Nat.le_of_ble_eq_true rfl) ?_
  intro p e s m below meth c A ls F C hl
  have hl : lv_has ls 5 [(0, .ref o), (1, .int p0)] := hl
  unfold wpX0_paidOf at hw
  obtain ⟨hx, hb, hr, hml, hown, hts, hlk, hA, hK, -⟩ := id F
  refine lv_lconst (v := 0) hx hb dX0_paidOf_0 (by decide) ?_
  refine lv_lstore_n (lv' := [(2, .long 0), (0, .ref o), (1, .int p0)]) hx hb dX0_paidOf_1 rfl hl (by decide) rfl (fun ls hl => ?_)
  refine lv_iconst (v := 0) hx hb dX0_paidOf_2 (by decide) ?_
  refine lv_istore (lv' := [(4, .int 0), (2, .long 0), (0, .ref o), (1, .int p0)]) hx hb dX0_paidOf_3 hl (by decide) rfl (fun ls hl => ?_)
  obtain ⟨fu, hw⟩ := hw
  exact kX0_paidOf_5 hX F  fu p0 0 0 s0 _ _ _ hw C (lv_sub hl [2, 3, 1, 0] rfl)

abbrev rmX0_pay : Room := { frames := 3, cells := 0, slots := 0, locals := 64 }
def wpX0_pay  (post : Int32 → CS → Prop) (s0 : CS) (p0 : Int32) (p1 : Int32) (p2 : Int32) : Prop := (wpX0_isDead (fun r_2 s_1 => ((r_2 = 0 → (post (-1) s_1)) ∧ (¬ r_2 = 0 → (wpX0_isPerson (fun r_5 s_4 => ((r_5 = 0 → (post (-1) s_4)) ∧ (¬ r_5 = 0 → (wpX0_in (fun r_8 s_7 => ((r_8 = 0 → (post (-1) s_7)) ∧ (¬ r_8 = 0 → (vp_in p0 24 ∧ (wpX0_paidOf (fun r_12 s_11 => (∀ x4_13 : Int64, x4_13 = (((sA s_7 38 p0.toNatClampNeg).toInt64) - r_12) → ((p2.toInt64 ≤ x4_13 → (vp_in ((24 * p0) + p1) 576 ∧ (vp_in ((24 * p0) + p1) 576 ∧ ∀ s_17 : CS, s_17 = uA s_11 39 ((24 * p0) + p1).toNatClampNeg ((sA s_11 39 ((24 * p0) + p1).toNatClampNeg) + p2) → (post ((x4_13 - p2.toInt64).toInt32) s_17)))) ∧ (¬ p2.toInt64 ≤ x4_13 → (post (-4) s_11))))) s_7 p0))))) s_4 p2 1 1000000000)))) s_1 p1)))) s0 p0)
theorem ctX0_pay (hE : Em E) (hX : ∀ U, E U → EL U) {post : Int32 → CS → Prop} {s0 : CS} {p0 p1 p2 : Int32} (hw : wpX0_pay  post s0 p0 p1 p2) : CtI l yX0_pay (ws_ yX0_pay cX0_pay 6 (some .int)) rmX0_pay D d E (wX o ad d) 0 0 [.ref o, .int p0, .int p1, .int p2] s0 post := by
  refine CtI.of hE (by decide) rfl (Nat.le_of_ble_eq_true rfl) ?_
  intro p e s m below meth c A ls F C hl
  have hl : lv_has ls 6 [(0, .ref o), (1, .int p0), (2, .int p1), (3, .int p2)] := hl
  unfold wpX0_pay at hw
  obtain ⟨hx, hb, hr, hml, hown, hts, hlk, hA, hK, -⟩ := id F
  refine lv_aload_n hx hb dX0_pay_0 rfl (lv_at hl 0 rfl) ?_
  refine lv_iload_n hx hb dX0_pay_1 rfl (lv_at hl 1 rfl) ?_
  refine x_callI (rest := []) (ci := 0) (q := (RX0, TX0, 41)) F C (ctX0_isDead hE hX hw) (cwV 1 hts (lw_V q512 q514 qs9 q70 q515) rfl rfl rfl (by decide +kernel) ⟨Nat.le_of_ble_eq_true rfl, Nat.le_of_ble_eq_true rfl⟩) rfl rfl rfl hl.1 rfl (Nat.le_of_ble_eq_true rfl) dX0_pay_2 ⟨Nat.zero_le _, Nat.zero_le _⟩ (fun r_2 s_1 H locs hw C => ?_)
  refine lv_if_eq (tgt := 27) hx hb dX0_pay_5 (by decide) (fun c_3 => ?_) (fun c_3 => ?_)
  · have hw := hw.1 c_3
    refine lv_iconst (v := (-1)) hx hb dX0_pay_27 (by decide) ?_
    exact x_iret F C hw dX0_pay_28
  · have hw := hw.2 c_3
    refine lv_aload_n hx hb dX0_pay_8 rfl (lv_at hl 0 rfl) ?_
    refine lv_iload_n hx hb dX0_pay_9 rfl (lv_at hl 2 rfl) ?_
    refine x_callI (rest := []) (ci := 0) (q := (RX0, TX0, 41)) F C (ctX0_isPerson hE hX hw) (cwV 1 hts (lw_V q251 q253 qs0 q70 q254) rfl rfl rfl (by decide +kernel) ⟨Nat.le_of_ble_eq_true rfl, Nat.le_of_ble_eq_true rfl⟩) rfl rfl rfl hl.1 rfl (Nat.le_of_ble_eq_true rfl) dX0_pay_10 ⟨Nat.zero_le _, Nat.zero_le _⟩ (fun r_5 s_4 H locs hw C => ?_)
    refine lv_if_eq (tgt := 27) hx hb dX0_pay_13 (by decide) (fun c_6 => ?_) (fun c_6 => ?_)
    · have hw := hw.1 c_6
      refine lv_iconst (v := (-1)) hx hb dX0_pay_27 (by decide) ?_
      exact x_iret F C hw dX0_pay_28
    · have hw := hw.2 c_6
      refine lv_iload_n hx hb dX0_pay_16 rfl (lv_at hl 3 rfl) ?_
      refine lv_iconst (v := 1) hx hb dX0_pay_17 (by decide) ?_
      refine lv_ldcw hx hb hown (hts _ q706) dX0_pay_18 ?_
      refine x_callSI (rest := []) F C (ctX0_in hE hw) (va_cwS 3 hts (lw_S q240 q241 q70 q242) rfl rfl rfl (by decide +kernel) ⟨Nat.le_of_ble_eq_true rfl, Nat.le_of_ble_eq_true rfl⟩) rfl hl.1 rfl (Nat.le_of_ble_eq_true rfl) dX0_pay_21 ⟨Nat.zero_le _, Nat.zero_le _⟩ (fun r_8 s_7 H locs hw C => ?_)
      refine lv_if_ne (tgt := 29) hx hb dX0_pay_24 (by decide) (fun c_9 => ?_) (fun c_9 => ?_)
      · have hw := hw.2 c_9
        refine lv_aload_n hx hb dX0_pay_29 rfl (lv_at hl 0 rfl) ?_
        refine x0_g38 F C dX0_pay_30 ?_
        refine lv_iload_n hx hb dX0_pay_33 rfl (lv_at hl 1 rfl) ?_
        obtain ⟨h_10, hw⟩ := hw
        refine x0_ld38 F C h_10 dX0_pay_34 ?_
        refine lv_i2l (v := (sA s_7 38 p0.toNatClampNeg).toInt64) hx hb dX0_pay_35 rfl ?_
        refine lv_aload_n hx hb dX0_pay_36 rfl (lv_at hl 0 rfl) ?_
        refine lv_iload_n hx hb dX0_pay_37 rfl (lv_at hl 1 rfl) ?_
        refine x_callL (rest := [.long ((sA s_7 38 p0.toNatClampNeg).toInt64)]) (ci := 0) (q := (RX0, TX0, 41)) F C (ctX0_paidOf hE hX hw) (cwV 1 hts (lw_V q711 q713 qs35 q70 q714) rfl rfl rfl (by decide +kernel) ⟨Nat.le_of_ble_eq_true rfl, Nat.le_of_ble_eq_true rfl⟩) rfl rfl rfl hl.1 rfl (Nat.le_of_ble_eq_true rfl) dX0_pay_38 ⟨Nat.zero_le _, Nat.zero_le _⟩ (fun r_12 s_11 H locs hw C => ?_)
        refine lv_lsub hx hb dX0_pay_41 ?_
        refine lv_topl (fun x4_13 ex4_13 => ?_)
        have hw := hw x4_13 ex4_13
        refine lv_lstore (lv' := [(4, .long x4_13), (0, .ref o), (1, .int p0), (2, .int p1), (3, .int p2)]) hx hb dX0_pay_42 hl (by decide) rfl (fun ls hl => ?_)
        refine lv_lload hx hb dX0_pay_44 (lv_at hl 0 rfl) ?_
        refine lv_iload_n hx hb dX0_pay_46 rfl (lv_at hl 4 rfl) ?_
        refine lv_i2l (v := p2.toInt64) hx hb dX0_pay_47 rfl ?_
        refine W.lcmp hx hb dX0_pay_48 ?_
        refine lv_if_ge (tgt := 55) hx hb dX0_pay_49 (by decide) (fun c_14 => ?_) (fun c_14 => ?_)
        · have hw := hw.1 ((lg_cmp_ge _ _).mp c_14)
          refine lv_aload_n hx hb dX0_pay_55 rfl (lv_at hl 1 rfl) ?_
          refine x0_g39 F C dX0_pay_56 ?_
          refine lv_bipush (v := 24) hx hb dX0_pay_59 (by decide) ?_
          refine lv_iload_n hx hb dX0_pay_61 rfl (lv_at hl 2 rfl) ?_
          refine lv_imul hx hb dX0_pay_62 ?_
          refine lv_iload_n hx hb dX0_pay_63 rfl (lv_at hl 3 rfl) ?_
          refine lv_iadd hx hb dX0_pay_64 ?_
          refine lv_dup2_11 hx hb dX0_pay_65 rfl rfl ?_
          obtain ⟨h_15, hw⟩ := hw
          refine x0_ld39 F C h_15 dX0_pay_66 ?_
          refine lv_iload_n hx hb dX0_pay_67 rfl (lv_at hl 4 rfl) ?_
          refine lv_iadd hx hb dX0_pay_68 ?_
          obtain ⟨h_16, hw⟩ := hw
          refine x0_st39 F C h_16 dX0_pay_69 (fun H locs s_17 es_17 C => ?_)
          have hw := hw s_17 es_17
          refine lv_lload hx hb dX0_pay_70 (lv_at hl 0 rfl) ?_
          refine lv_iload_n hx hb dX0_pay_72 rfl (lv_at hl 4 rfl) ?_
          refine lv_i2l (v := p2.toInt64) hx hb dX0_pay_73 rfl ?_
          refine lv_lsub hx hb dX0_pay_74 ?_
          refine lv_l2i (v := (x4_13 - p2.toInt64).toInt32) hx hb dX0_pay_75 rfl ?_
          exact x_iret F C hw dX0_pay_76
        · have hw := hw.2 (fun h9 => c_14 ((lg_cmp_ge _ _).mpr h9))
          refine lv_bipush (v := (-4)) hx hb dX0_pay_52 (by decide) ?_
          exact x_iret F C hw dX0_pay_54
      · have hw := hw.1 c_9
        refine lv_iconst (v := (-1)) hx hb dX0_pay_27 (by decide) ?_
        exact x_iret F C hw dX0_pay_28

abbrev rmX0_dueOf : Room := { frames := 54, cells := 0, slots := 0, locals := 1202 }
def wpX0_dueOf  (post : Int64 → CS → Prop) (s0 : CS) (p0 : Int32) (p1 : Int32) : Prop := (wpX0_takeAll (fun s_1 => (wpX0_share_2 (fun s_3 => (vp_in p0 24 ∧ (vp_in p1 25 ∧ (vp_in p1 25 ∧ (¬ (sM s_3 23 p1.toNatClampNeg) = 0 ∧ (post ((((sA s_3 38 p0.toNatClampNeg).toInt64) * (sM s_3 22 p1.toNatClampNeg)) / (sM s_3 23 p1.toNatClampNeg)) s_3)))))) s_1 p0)) s0 0)
theorem ctX0_dueOf (hE : Em E) (hX : ∀ U, E U → EL U) {post : Int64 → CS → Prop} {s0 : CS} {p0 p1 : Int32} (hw : wpX0_dueOf  post s0 p0 p1) : CtL l yX0_dueOf (ws_ yX0_dueOf cX0_dueOf 3 (some .long)) rmX0_dueOf D d E (wX o ad d) 0 0 [.ref o, .int p0, .int p1] s0 post := by
  refine CtL.of hE (by decide) rfl (Nat.le_of_ble_eq_true rfl) ?_
  intro p e s m below meth c A ls F C hl
  have hl : lv_has ls 3 [(0, .ref o), (1, .int p0), (2, .int p1)] := hl
  unfold wpX0_dueOf at hw
  obtain ⟨hx, hb, hr, hml, hown, hts, hlk, hA, hK, -⟩ := id F
  refine lv_aload_n hx hb dX0_dueOf_0 rfl (lv_at hl 0 rfl) ?_
  refine lv_iconst (v := 0) hx hb dX0_dueOf_1 (by decide) ?_
  refine x_callV (rest := []) (ci := 0) (q := (RX0, TX0, 41)) F C (ctX0_takeAll hE hX hw) (cwV 1 hts (lw_V q528 q530 qs12 q70 q531) rfl rfl rfl (by decide +kernel) ⟨Nat.le_of_ble_eq_true rfl, Nat.le_of_ble_eq_true rfl⟩) rfl rfl rfl hl.1 rfl (Nat.le_of_ble_eq_true rfl) dX0_dueOf_2 ⟨Nat.zero_le _, Nat.zero_le _⟩ (fun s_1 H locs hw C => ?_)
  refine lv_aload_n hx hb dX0_dueOf_5 rfl (lv_at hl 0 rfl) ?_
  refine lv_iload_n hx hb dX0_dueOf_6 rfl (lv_at hl 1 rfl) ?_
  refine x_callV (rest := []) (ci := 0) (q := (RX0, TX0, 41)) F C (ctX0_share_2 hE hX hw) (cwV 1 hts (lw_V q532 q534 qs13 q70 q535) rfl rfl rfl (by decide +kernel) ⟨Nat.le_of_ble_eq_true rfl, Nat.le_of_ble_eq_true rfl⟩) rfl rfl rfl hl.1 rfl (Nat.le_of_ble_eq_true rfl) dX0_dueOf_7 ⟨Nat.zero_le _, Nat.zero_le _⟩ (fun s_3 H locs hw C => ?_)
  refine lv_aload_n hx hb dX0_dueOf_10 rfl (lv_at hl 0 rfl) ?_
  refine x0_g38 F C dX0_dueOf_11 ?_
  refine lv_iload_n hx hb dX0_dueOf_14 rfl (lv_at hl 1 rfl) ?_
  obtain ⟨h_5, hw⟩ := hw
  refine x0_ld38 F C h_5 dX0_dueOf_15 ?_
  refine lv_i2l (v := (sA s_3 38 p0.toNatClampNeg).toInt64) hx hb dX0_dueOf_16 rfl ?_
  refine lv_aload_n hx hb dX0_dueOf_17 rfl (lv_at hl 0 rfl) ?_
  refine x0_g22 F C dX0_dueOf_18 ?_
  refine lv_iload_n hx hb dX0_dueOf_21 rfl (lv_at hl 2 rfl) ?_
  obtain ⟨h_6, hw⟩ := hw
  refine x0_ld22 F C h_6 dX0_dueOf_22 ?_
  refine lv_lmul hx hb dX0_dueOf_23 ?_
  refine lv_aload_n hx hb dX0_dueOf_24 rfl (lv_at hl 0 rfl) ?_
  refine x0_g23 F C dX0_dueOf_25 ?_
  refine lv_iload_n hx hb dX0_dueOf_28 rfl (lv_at hl 2 rfl) ?_
  obtain ⟨h_7, hw⟩ := hw
  refine x0_ld23 F C h_7 dX0_dueOf_29 ?_
  obtain ⟨h_8, hw⟩ := hw
  refine lv_ldiv hx hb dX0_dueOf_30 h_8 ?_
  exact x_lret F C hw dX0_dueOf_31

abbrev rmX0_due : Room := { frames := 55, cells := 0, slots := 0, locals := 1224 }
def wpX0_due  (post : Int32 → CS → Prop) (s0 : CS) (p0 : Int32) (p1 : Int32) : Prop := (wpX0_isPerson (fun r_2 s_1 => (wpX0_need (fun r_4 s_3 => ((0 ≤ r_4 → (wpX0_dueOf (fun r_7 s_6 => (post r_7.toInt32 s_6)) s_3 p0 p1)) ∧ (¬ 0 ≤ r_4 → (post r_4 s_3)))) s_1 r_2 p0)) s0 p1)
theorem ctX0_due (hE : Em E) (hX : ∀ U, E U → EL U) {post : Int32 → CS → Prop} {s0 : CS} {p0 p1 : Int32} (hw : wpX0_due  post s0 p0 p1) : CtI l yX0_due (ws_ yX0_due cX0_due 4 (some .int)) rmX0_due D d E (wX o ad d) 0 0 [.ref o, .int p0, .int p1] s0 post := by
  refine CtI.of hE (by decide) rfl (Nat.le_of_ble_eq_true rfl) ?_
  intro p e s m below meth c A ls F C hl
  have hl : lv_has ls 4 [(0, .ref o), (1, .int p0), (2, .int p1)] := hl
  unfold wpX0_due at hw
  obtain ⟨hx, hb, hr, hml, hown, hts, hlk, hA, hK, -⟩ := id F
  refine lv_aload_n hx hb dX0_due_0 rfl (lv_at hl 0 rfl) ?_
  refine lv_aload_n hx hb dX0_due_1 rfl (lv_at hl 0 rfl) ?_
  refine lv_iload_n hx hb dX0_due_2 rfl (lv_at hl 2 rfl) ?_
  refine x_callI (rest := [.ref o]) (ci := 0) (q := (RX0, TX0, 41)) F C (ctX0_isPerson hE hX hw) (cwV 1 hts (lw_V q251 q253 qs0 q70 q254) rfl rfl rfl (by decide +kernel) ⟨Nat.le_of_ble_eq_true rfl, Nat.le_of_ble_eq_true rfl⟩) rfl rfl rfl hl.1 rfl (Nat.le_of_ble_eq_true rfl) dX0_due_3 ⟨Nat.zero_le _, Nat.zero_le _⟩ (fun r_2 s_1 H locs hw C => ?_)
  refine lv_iload_n hx hb dX0_due_6 rfl (lv_at hl 1 rfl) ?_
  refine x_callI (rest := []) (ci := 0) (q := (RX0, TX0, 41)) F C (ctX0_need hE hX hw) (cwV 2 hts (lw_V q508 q510 qs8 q70 q511) rfl rfl rfl (by decide +kernel) ⟨Nat.le_of_ble_eq_true rfl, Nat.le_of_ble_eq_true rfl⟩) rfl rfl rfl hl.1 rfl (Nat.le_of_ble_eq_true rfl) dX0_due_7 ⟨Nat.zero_le _, Nat.zero_le _⟩ (fun r_4 s_3 H locs hw C => ?_)
  refine lv_istore_n (lv' := [(3, .int r_4), (0, .ref o), (1, .int p0), (2, .int p1)]) hx hb dX0_due_10 rfl hl (by decide) rfl (fun ls hl => ?_)
  refine lv_iload_n hx hb dX0_due_11 rfl (lv_at hl 0 rfl) ?_
  refine lv_if_ge (tgt := 19) hx hb dX0_due_12 (by decide) (fun c_5 => ?_) (fun c_5 => ?_)
  · have hw := hw.1 c_5
    refine lv_aload_n hx hb dX0_due_19 rfl (lv_at hl 1 rfl) ?_
    refine lv_iload_n hx hb dX0_due_20 rfl (lv_at hl 2 rfl) ?_
    refine lv_iload_n hx hb dX0_due_21 rfl (lv_at hl 3 rfl) ?_
    refine x_callL (rest := []) (ci := 0) (q := (RX0, TX0, 41)) F C (ctX0_dueOf hE hX hw) (cwV 2 hts (lw_V q719 q721 qs36 q70 q722) rfl rfl rfl (by decide +kernel) ⟨Nat.le_of_ble_eq_true rfl, Nat.le_of_ble_eq_true rfl⟩) rfl rfl rfl hl.1 rfl (Nat.le_of_ble_eq_true rfl) dX0_due_22 ⟨Nat.zero_le _, Nat.zero_le _⟩ (fun r_7 s_6 H locs hw C => ?_)
    refine lv_l2i (v := r_7.toInt32) hx hb dX0_due_25 rfl ?_
    exact x_iret F C hw dX0_due_26
  · have hw := hw.2 c_5
    refine lv_iload_n hx hb dX0_due_15 rfl (lv_at hl 0 rfl) ?_
    refine lv_goto (tgt := 26) hx hb dX0_due_16 (by decide) ?_
    exact x_iret F C hw dX0_due_26

abbrev rmX0_paid : Room := { frames := 3, cells := 0, slots := 0, locals := 64 }
def wX0_paid_30  (post : Int32 → CS → Prop)   (st : CS) : Prop := (post (-1) st)
def wpX0_paid  (post : Int32 → CS → Prop) (s0 : CS) (p0 : Int32) (p1 : Int32) : Prop := (wpX0_isDead (fun r_2 s_1 => ((r_2 = 0 → (wX0_paid_30  post  s_1)) ∧ (¬ r_2 = 0 → (wpX0_isPerson (fun r_5 s_4 => ((r_5 = 0 → (wX0_paid_30  post  s_4)) ∧ (¬ r_5 = 0 → (vp_in ((24 * p0) + p1) 576 ∧ (post (sA s_4 39 ((24 * p0) + p1).toNatClampNeg) s_4))))) s_1 p1)))) s0 p0)
set_option maxHeartbeats 4000000 in
theorem kX0_paid_30 (hX : ∀ U, E U → EL U) {post : Int32 → CS → Prop}  (F : Fx p s m args meth c cX0_paid 3 RX0 (some .int) D d E A) : ∀  (st : CS) (H : Heap) (locs : List Loc) (ls : Array Slot), wX0_paid_30  post  st → Cx D (wX o ad d) A s st H locs → lv_has ls 3 [] → W p l e (headSpec (ws_ yX0_paid cX0_paid 3 (some .int)) rmX0_paid).room s m args below meth c H locs 0 0 (QI below D d E (wX o ad d) A args s 0 0 post) (F0 m 30 ls []) := by
  obtain ⟨hx, hb, hr, hml, hown, hts, hlk, hA, hK, hE⟩ := id F
  intro st H locs ls hw C hl
  unfold wX0_paid_30 at hw
  refine lv_iconst (v := (-1)) hx hb dX0_paid_30 (by decide) ?_
  exact x_iret F C hw dX0_paid_31
theorem ctX0_paid (hE : Em E) (hX : ∀ U, E U → EL U) {post : Int32 → CS → Prop} {s0 : CS} {p0 p1 : Int32} (hw : wpX0_paid  post s0 p0 p1) : CtI l yX0_paid (ws_ yX0_paid cX0_paid 3 (some .int)) rmX0_paid D d E (wX o ad d) 0 0 [.ref o, .int p0, .int p1] s0 post := by
  refine CtI.of hE (by decide) rfl (Nat.le_of_ble_eq_true rfl) ?_
  intro p e s m below meth c A ls F C hl
  have hl : lv_has ls 3 [(0, .ref o), (1, .int p0), (2, .int p1)] := hl
  unfold wpX0_paid at hw
  obtain ⟨hx, hb, hr, hml, hown, hts, hlk, hA, hK, -⟩ := id F
  refine lv_aload_n hx hb dX0_paid_0 rfl (lv_at hl 0 rfl) ?_
  refine lv_iload_n hx hb dX0_paid_1 rfl (lv_at hl 1 rfl) ?_
  refine x_callI (rest := []) (ci := 0) (q := (RX0, TX0, 41)) F C (ctX0_isDead hE hX hw) (cwV 1 hts (lw_V q512 q514 qs9 q70 q515) rfl rfl rfl (by decide +kernel) ⟨Nat.le_of_ble_eq_true rfl, Nat.le_of_ble_eq_true rfl⟩) rfl rfl rfl hl.1 rfl (Nat.le_of_ble_eq_true rfl) dX0_paid_2 ⟨Nat.zero_le _, Nat.zero_le _⟩ (fun r_2 s_1 H locs hw C => ?_)
  refine lv_if_eq (tgt := 30) hx hb dX0_paid_5 (by decide) (fun c_3 => ?_) (fun c_3 => ?_)
  · have hw := hw.1 c_3
    exact kX0_paid_30 hX F  s_1 _ _ _ hw C (lv_sub hl [] rfl)
  · have hw := hw.2 c_3
    refine lv_aload_n hx hb dX0_paid_8 rfl (lv_at hl 0 rfl) ?_
    refine lv_iload_n hx hb dX0_paid_9 rfl (lv_at hl 2 rfl) ?_
    refine x_callI (rest := []) (ci := 0) (q := (RX0, TX0, 41)) F C (ctX0_isPerson hE hX hw) (cwV 1 hts (lw_V q251 q253 qs0 q70 q254) rfl rfl rfl (by decide +kernel) ⟨Nat.le_of_ble_eq_true rfl, Nat.le_of_ble_eq_true rfl⟩) rfl rfl rfl hl.1 rfl (Nat.le_of_ble_eq_true rfl) dX0_paid_10 ⟨Nat.zero_le _, Nat.zero_le _⟩ (fun r_5 s_4 H locs hw C => ?_)
    refine lv_if_eq (tgt := 30) hx hb dX0_paid_13 (by decide) (fun c_6 => ?_) (fun c_6 => ?_)
    · have hw := hw.1 c_6
      exact kX0_paid_30 hX F  s_4 _ _ _ hw C (lv_sub hl [] rfl)
    · have hw := hw.2 c_6
      refine lv_aload_n hx hb dX0_paid_16 rfl (lv_at hl 0 rfl) ?_
      refine x0_g39 F C dX0_paid_17 ?_
      refine lv_bipush (v := 24) hx hb dX0_paid_20 (by decide) ?_
      refine lv_iload_n hx hb dX0_paid_22 rfl (lv_at hl 1 rfl) ?_
      refine lv_imul hx hb dX0_paid_23 ?_
      refine lv_iload_n hx hb dX0_paid_24 rfl (lv_at hl 2 rfl) ?_
      refine lv_iadd hx hb dX0_paid_25 ?_
      obtain ⟨h_7, hw⟩ := hw
      refine x0_ld39 F C h_7 dX0_paid_26 ?_
      refine lv_goto (tgt := 31) hx hb dX0_paid_27 (by decide) ?_
      exact x_iret F C hw dX0_paid_31

abbrev rmX0_owes : Room := { frames := 55, cells := 0, slots := 0, locals := 1224 }
def wpX0_owes  (post : Int32 → CS → Prop) (s0 : CS) (p0 : Int32) (p1 : Int32) : Prop := (wpX0_isPerson (fun r_2 s_1 => (wpX0_need (fun r_4 s_3 => ((0 ≤ r_4 → (vp_in ((24 * p0) + p1) 576 ∧ (wpX0_dueOf (fun r_8 s_7 => (post ((if (((sA s_3 39 ((24 * p0) + p1).toNatClampNeg).toInt64) - r_8) < 0 then 0 else (((sA s_3 39 ((24 * p0) + p1).toNatClampNeg).toInt64) - r_8)).toInt32) s_7)) s_3 p0 p1))) ∧ (¬ 0 ≤ r_4 → (post r_4 s_3)))) s_1 r_2 p0)) s0 p1)
theorem ctX0_owes (hE : Em E) (hX : ∀ U, E U → EL U) {post : Int32 → CS → Prop} {s0 : CS} {p0 p1 : Int32} (hw : wpX0_owes  post s0 p0 p1) : CtI l yX0_owes (ws_ yX0_owes cX0_owes 4 (some .int)) rmX0_owes D d E (wX o ad d) 0 0 [.ref o, .int p0, .int p1] s0 post := by
  refine CtI.of hE (by decide) rfl (Nat.le_of_ble_eq_true rfl) ?_
  intro p e s m below meth c A ls F C hl
  have hl : lv_has ls 4 [(0, .ref o), (1, .int p0), (2, .int p1)] := hl
  unfold wpX0_owes at hw
  obtain ⟨hx, hb, hr, hml, hown, hts, hlk, hA, hK, -⟩ := id F
  refine lv_aload_n hx hb dX0_owes_0 rfl (lv_at hl 0 rfl) ?_
  refine lv_aload_n hx hb dX0_owes_1 rfl (lv_at hl 0 rfl) ?_
  refine lv_iload_n hx hb dX0_owes_2 rfl (lv_at hl 2 rfl) ?_
  refine x_callI (rest := [.ref o]) (ci := 0) (q := (RX0, TX0, 41)) F C (ctX0_isPerson hE hX hw) (cwV 1 hts (lw_V q251 q253 qs0 q70 q254) rfl rfl rfl (by decide +kernel) ⟨Nat.le_of_ble_eq_true rfl, Nat.le_of_ble_eq_true rfl⟩) rfl rfl rfl hl.1 rfl (Nat.le_of_ble_eq_true rfl) dX0_owes_3 ⟨Nat.zero_le _, Nat.zero_le _⟩ (fun r_2 s_1 H locs hw C => ?_)
  refine lv_iload_n hx hb dX0_owes_6 rfl (lv_at hl 1 rfl) ?_
  refine x_callI (rest := []) (ci := 0) (q := (RX0, TX0, 41)) F C (ctX0_need hE hX hw) (cwV 2 hts (lw_V q508 q510 qs8 q70 q511) rfl rfl rfl (by decide +kernel) ⟨Nat.le_of_ble_eq_true rfl, Nat.le_of_ble_eq_true rfl⟩) rfl rfl rfl hl.1 rfl (Nat.le_of_ble_eq_true rfl) dX0_owes_7 ⟨Nat.zero_le _, Nat.zero_le _⟩ (fun r_4 s_3 H locs hw C => ?_)
  refine lv_istore_n (lv' := [(3, .int r_4), (0, .ref o), (1, .int p0), (2, .int p1)]) hx hb dX0_owes_10 rfl hl (by decide) rfl (fun ls hl => ?_)
  refine lv_iload_n hx hb dX0_owes_11 rfl (lv_at hl 0 rfl) ?_
  refine lv_if_ge (tgt := 19) hx hb dX0_owes_12 (by decide) (fun c_5 => ?_) (fun c_5 => ?_)
  · have hw := hw.1 c_5
    refine lv_lconst (v := 0) hx hb dX0_owes_19 (by decide) ?_
    refine lv_aload_n hx hb dX0_owes_20 rfl (lv_at hl 1 rfl) ?_
    refine x0_g39 F C dX0_owes_21 ?_
    refine lv_bipush (v := 24) hx hb dX0_owes_24 (by decide) ?_
    refine lv_iload_n hx hb dX0_owes_26 rfl (lv_at hl 2 rfl) ?_
    refine lv_imul hx hb dX0_owes_27 ?_
    refine lv_iload_n hx hb dX0_owes_28 rfl (lv_at hl 3 rfl) ?_
    refine lv_iadd hx hb dX0_owes_29 ?_
    obtain ⟨h_6, hw⟩ := hw
    refine x0_ld39 F C h_6 dX0_owes_30 ?_
    refine lv_i2l (v := (sA s_3 39 ((24 * p0) + p1).toNatClampNeg).toInt64) hx hb dX0_owes_31 rfl ?_
    refine lv_aload_n hx hb dX0_owes_32 rfl (lv_at hl 1 rfl) ?_
    refine lv_iload_n hx hb dX0_owes_33 rfl (lv_at hl 2 rfl) ?_
    refine lv_iload_n hx hb dX0_owes_34 rfl (lv_at hl 3 rfl) ?_
    refine x_callL (rest := [.long ((sA s_3 39 ((24 * p0) + p1).toNatClampNeg).toInt64), .long 0]) (ci := 0) (q := (RX0, TX0, 41)) F C (ctX0_dueOf hE hX hw) (cwV 2 hts (lw_V q719 q721 qs36 q70 q722) rfl rfl rfl (by decide +kernel) ⟨Nat.le_of_ble_eq_true rfl, Nat.le_of_ble_eq_true rfl⟩) rfl rfl rfl hl.1 rfl (Nat.le_of_ble_eq_true rfl) dX0_owes_35 ⟨Nat.zero_le _, Nat.zero_le _⟩ (fun r_8 s_7 H locs hw C => ?_)
    refine lv_lsub hx hb dX0_owes_38 ?_
    refine va_mmax_long hx hb (by rw [hml]; exact hl.1.symm) hown (hts _ q731) (hts _ q732) (hts _ q81) (hts _ q733) (Nat.le_of_ble_eq_true rfl) (Nat.le_of_ble_eq_true rfl) (Nat.zero_le _) (Nat.zero_le _) dX0_owes_39 ?_
    refine lv_l2i (v := (if (((sA s_3 39 ((24 * p0) + p1).toNatClampNeg).toInt64) - r_8) < 0 then 0 else (((sA s_3 39 ((24 * p0) + p1).toNatClampNeg).toInt64) - r_8)).toInt32) hx hb dX0_owes_42 rfl ?_
    exact x_iret F C hw dX0_owes_43
  · have hw := hw.2 c_5
    refine lv_iload_n hx hb dX0_owes_15 rfl (lv_at hl 0 rfl) ?_
    refine lv_goto (tgt := 43) hx hb dX0_owes_16 (by decide) ?_
    exact x_iret F C hw dX0_owes_43

abbrev rmX0_isSheet : Room := { frames := 1, cells := 0, slots := 0, locals := 22 }
def wpX0_isSheet  (post : Int32 → CS → Prop) (s0 : CS) (p0 : Int32) : Prop := (wpX0_in (fun r_2 s_1 => (zb r_2 ∧ post r_2 s_1)) s0 p0 0 3)
theorem ctX0_isSheet (hE : Em E)  {post : Int32 → CS → Prop} {s0 : CS} {p0 : Int32} (hw : wpX0_isSheet  post s0 p0) : CtI l yX0_isSheet (ws_ yX0_isSheet cX0_isSheet 1 (some .boolean)) rmX0_isSheet D d E wf 0 0 [.int p0] s0 post := by
  refine CtI.of hE (by decide) rfl (Nat.le_of_ble_eq_true rfl) ?_
  intro p e s m below meth c A ls F C hl
  have hl : lv_has ls 1 [(0, .int p0)] := hl
  unfold wpX0_isSheet at hw
  obtain ⟨hx, hb, hr, hml, hown, hts, hlk, hA, hK, -⟩ := id F
  refine lv_iload_n hx hb dX0_isSheet_0 rfl (lv_at hl 0 rfl) ?_
  refine lv_iconst (v := 0) hx hb dX0_isSheet_1 (by decide) ?_
  refine lv_iconst (v := 3) hx hb dX0_isSheet_2 (by decide) ?_
  refine x_callSI (rest := []) F C (ctX0_in hE hw) (va_cwS 3 hts (lw_S q240 q241 q70 q242) rfl rfl rfl (by decide +kernel) ⟨Nat.le_of_ble_eq_true rfl, Nat.le_of_ble_eq_true rfl⟩) rfl hl.1 rfl (Nat.le_of_ble_eq_true rfl) dX0_isSheet_3 ⟨Nat.zero_le _, Nat.zero_le _⟩ (fun r_2 s_1 H locs hw C => ?_)
  exact x_zret F C hw.1 hw.2 dX0_isSheet_6

abbrev rmX0_count : Room := { frames := 0, cells := 0, slots := 0, locals := 0 }
def wpX0_count  (post : Int32 → CS → Prop) (s0 : CS) (p0 : Int32) : Prop := ((p0 = 0 → (post (sI s0 6) s0)) ∧ (¬ p0 = 0 → ((p0 = 1 → (post (sI s0 11) s0)) ∧ (¬ p0 = 1 → ((p0 = 2 → (post (sI s0 12) s0)) ∧ (¬ p0 = 2 → ((p0 = 3 → (post (sI s0 14) s0)) ∧ (¬ p0 = 3 → (post (-1) s0)))))))))
theorem ctX0_count (hE : Em E) (hX : ∀ U, E U → EL U) {post : Int32 → CS → Prop} {s0 : CS} {p0 : Int32} (hw : wpX0_count  post s0 p0) : CtI l yX0_count (ws_ yX0_count cX0_count 2 (some .int)) rmX0_count D d E (wX o ad d) 0 0 [.ref o, .int p0] s0 post := by
  refine CtI.of hE (by decide) rfl (Nat.le_of_ble_eq_true rfl) ?_
  intro p e s m below meth c A ls F C hl
  have hl : lv_has ls 2 [(0, .ref o), (1, .int p0)] := hl
  unfold wpX0_count at hw
  obtain ⟨hx, hb, hr, hml, hown, hts, hlk, hA, hK, -⟩ := id F
  refine lv_iload_n hx hb dX0_count_0 rfl (lv_at hl 1 rfl) ?_
  refine lv_if_ne (tgt := 11) hx hb dX0_count_1 (by decide) (fun c_1 => ?_) (fun c_1 => ?_)
  · have hw := hw.2 c_1
    refine lv_iload_n hx hb dX0_count_11 rfl (lv_at hl 1 rfl) ?_
    refine lv_iconst (v := 1) hx hb dX0_count_12 (by decide) ?_
    refine lv_icmp_ne (tgt := 23) hx hb dX0_count_13 (by decide) (fun c_2 => ?_) (fun c_2 => ?_)
    · have hw := hw.2 c_2
      refine lv_iload_n hx hb dX0_count_23 rfl (lv_at hl 1 rfl) ?_
      refine lv_iconst (v := 2) hx hb dX0_count_24 (by decide) ?_
      refine lv_icmp_ne (tgt := 35) hx hb dX0_count_25 (by decide) (fun c_3 => ?_) (fun c_3 => ?_)
      · have hw := hw.2 c_3
        refine lv_iload_n hx hb dX0_count_35 rfl (lv_at hl 1 rfl) ?_
        refine lv_iconst (v := 3) hx hb dX0_count_36 (by decide) ?_
        refine lv_icmp_ne (tgt := 47) hx hb dX0_count_37 (by decide) (fun c_4 => ?_) (fun c_4 => ?_)
        · have hw := hw.2 c_4
          refine lv_iconst (v := (-1)) hx hb dX0_count_47 (by decide) ?_
          exact x_iret F C hw dX0_count_48
        · have hw := hw.1 c_4
          refine lv_aload_n hx hb dX0_count_40 rfl (lv_at hl 0 rfl) ?_
          refine x0_g14 F C dX0_count_41 ?_
          refine lv_goto (tgt := 48) hx hb dX0_count_44 (by decide) ?_
          exact x_iret F C hw dX0_count_48
      · have hw := hw.1 c_3
        refine lv_aload_n hx hb dX0_count_28 rfl (lv_at hl 0 rfl) ?_
        refine x0_g12 F C dX0_count_29 ?_
        refine lv_goto (tgt := 48) hx hb dX0_count_32 (by decide) ?_
        exact x_iret F C hw dX0_count_48
    · have hw := hw.1 c_2
      refine lv_aload_n hx hb dX0_count_16 rfl (lv_at hl 0 rfl) ?_
      refine x0_g11 F C dX0_count_17 ?_
      refine lv_goto (tgt := 48) hx hb dX0_count_20 (by decide) ?_
      exact x_iret F C hw dX0_count_48
  · have hw := hw.1 c_1
    refine lv_aload_n hx hb dX0_count_4 rfl (lv_at hl 0 rfl) ?_
    refine x0_g6 F C dX0_count_5 ?_
    refine lv_goto (tgt := 48) hx hb dX0_count_8 (by decide) ?_
    exact x_iret F C hw dX0_count_48

abbrev rmX0_finding : Room := { frames := 0, cells := 0, slots := 0, locals := 0 }
def wpX0_finding  (post : Int32 → CS → Prop) (s0 : CS)  : Prop := (post (sI s0 0) s0)
theorem ctX0_finding (hE : Em E) (hX : ∀ U, E U → EL U) {post : Int32 → CS → Prop} {s0 : CS}  (hw : wpX0_finding  post s0 ) : CtI l yX0_finding (ws_ yX0_finding cX0_finding 1 (some .int)) rmX0_finding D d E (wX o ad d) 0 0 [.ref o] s0 post := by
  refine CtI.of hE (by decide) rfl (Nat.le_of_ble_eq_true rfl) ?_
  intro p e s m below meth c A ls F C hl
  have hl : lv_has ls 1 [(0, .ref o)] := hl
  unfold wpX0_finding at hw
  obtain ⟨hx, hb, hr, hml, hown, hts, hlk, hA, hK, -⟩ := id F
  refine lv_aload_n hx hb dX0_finding_0 rfl (lv_at hl 0 rfl) ?_
  refine x0_g0 F C dX0_finding_1 ?_
  exact x_iret F C hw dX0_finding_4

abbrev rmX0_findings : Room := { frames := 1, cells := 0, slots := 0, locals := 22 }
def wpX0_findings  (post : Int32 → CS → Prop) (s0 : CS) (p0 : Int32) : Prop := (wpX0_in (fun r_2 s_1 => ((r_2 = 0 → (post (-1) s_1)) ∧ (¬ r_2 = 0 → (vp_in p0 6 ∧ (post (sA s_1 1 p0.toNatClampNeg) s_1))))) s0 p0 1 5)
theorem ctX0_findings (hE : Em E) (hX : ∀ U, E U → EL U) {post : Int32 → CS → Prop} {s0 : CS} {p0 : Int32} (hw : wpX0_findings  post s0 p0) : CtI l yX0_findings (ws_ yX0_findings cX0_findings 2 (some .int)) rmX0_findings D d E (wX o ad d) 0 0 [.ref o, .int p0] s0 post := by
  refine CtI.of hE (by decide) rfl (Nat.le_of_ble_eq_true rfl) ?_
  intro p e s m below meth c A ls F C hl
  have hl : lv_has ls 2 [(0, .ref o), (1, .int p0)] := hl
  unfold wpX0_findings at hw
  obtain ⟨hx, hb, hr, hml, hown, hts, hlk, hA, hK, -⟩ := id F
  refine lv_iload_n hx hb dX0_findings_0 rfl (lv_at hl 1 rfl) ?_
  refine lv_iconst (v := 1) hx hb dX0_findings_1 (by decide) ?_
  refine lv_iconst (v := 5) hx hb dX0_findings_2 (by decide) ?_
  refine x_callSI (rest := []) F C (ctX0_in hE hw) (va_cwS 3 hts (lw_S q240 q241 q70 q242) rfl rfl rfl (by decide +kernel) ⟨Nat.le_of_ble_eq_true rfl, Nat.le_of_ble_eq_true rfl⟩) rfl hl.1 rfl (Nat.le_of_ble_eq_true rfl) dX0_findings_3 ⟨Nat.zero_le _, Nat.zero_le _⟩ (fun r_2 s_1 H locs hw C => ?_)
  refine lv_if_eq (tgt := 18) hx hb dX0_findings_6 (by decide) (fun c_3 => ?_) (fun c_3 => ?_)
  · have hw := hw.1 c_3
    refine lv_iconst (v := (-1)) hx hb dX0_findings_18 (by decide) ?_
    exact x_iret F C hw dX0_findings_19
  · have hw := hw.2 c_3
    refine lv_aload_n hx hb dX0_findings_9 rfl (lv_at hl 0 rfl) ?_
    refine x0_g1 F C dX0_findings_10 ?_
    refine lv_iload_n hx hb dX0_findings_13 rfl (lv_at hl 1 rfl) ?_
    obtain ⟨h_4, hw⟩ := hw
    refine x0_ld1 F C h_4 dX0_findings_14 ?_
    refine lv_goto (tgt := 19) hx hb dX0_findings_15 (by decide) ?_
    exact x_iret F C hw dX0_findings_19
end
