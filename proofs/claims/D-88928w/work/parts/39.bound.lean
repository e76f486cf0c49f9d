section
variable {Y : Est}
theorem root_den0 (G : Gr) (cnt : Nat → Bool) (C : Nat) {H : Nat} (h : htot G cnt C ∣ H ∨ htot G cnt C = 0) (q : Nat) : isZ (H * rootQ G cnt C q) := by
  rcases h with h | h
  · exact root_den G cnt C h q
  · unfold rootQ
    rw [h, show ((0 : Nat) : Rat) = 0 from rfl, Rat.div_def, Rat.inv_zero, Rat.mul_zero, Rat.mul_zero]; exact isZ_0
/-! what the circles say -/
theorem circ_2 {G : Gr} {cnt : Nat → Bool} {C r : Nat} (h : circ G cnt C = 2) (hr : rootQ G cnt C r ≠ 0) : ∃ l, l < G.nl ∧ G.chi l = G.d ∧ cnt l = true ∧ G.par l = r := by
  have h1 := root_ne hr
  unfold rwt at h1
  rw [h, if_neg (by decide), if_pos rfl] at h1
  split at h1
  · obtain ⟨l, hl, h2⟩ := SN_pos_iff.mp (Nat.pos_of_ne_zero h1)
    exact ⟨l, hl, h2.2.1, h2.2.2, h2.1⟩
  · exact absurd rfl h1
theorem SN_ne {n : Nat} {f : Nat → Nat} (h : SN n f ≠ 0) : ∃ i, i < n ∧ f i ≠ 0 := by
  induction n with
  | zero => exact absurd rfl h
  | succ n ih =>
    simp only [SN] at h
    by_cases c : f n = 0
    · obtain ⟨i, hi, h2⟩ := ih (by omega)
      exact ⟨i, by omega, h2⟩
    · exact ⟨n, by omega, c⟩
theorem circ_3 {G : Gr} {cnt : Nat → Bool} {C r : Nat} (h : circ G cnt C = 3) (hr : rootQ G cnt C r ≠ 0) : ∃ l m, l < G.nl ∧ m < G.nl ∧ G.chi l = G.d ∧ cnt l = true ∧ G.chi m = G.par l ∧ cnt m = true ∧ G.par m = r := by
  have h1 := root_ne hr
  unfold rwt at h1
  rw [h, if_neg (by decide), if_neg (by decide), if_pos rfl] at h1
  split at h1
  · obtain ⟨l, hl, h2⟩ := SN_ne h1
    split at h2
    · next c =>
      obtain ⟨m, hm, h3⟩ := SN_pos_iff.mp (Nat.pos_of_ne_zero h2)
      exact ⟨l, m, hl, hm, c.1, c.2, h3.2.1, h3.2.2, h3.1⟩
    · exact absurd rfl h2
  · exact absurd rfl h1
theorem circ_not2 {G : Gr} {cnt : Nat → Bool} {C l : Nat} (hG : G.ok) (h : circ G cnt C = 3) (hl : l < G.nl) (hd : G.chi l = G.d) (hc : cnt l = true) : ¬ inn G cnt (G.par l) = true := by
  intro hi
  have h2 : 0 < hs G cnt (hd2 G cnt) := by
    unfold hs
    have := SN_term (f := fun q => if inn G cnt q = true then hd2 G cnt q else 0) (hG.lp l hl)
    have h3 : 0 < hd2 G cnt (G.par l) := SN_pos_iff.mpr ⟨l, hl, rfl, hd, hc⟩
    simp only [hi, if_true] at this
    omega
  unfold circ at h
  split at h
  · exact absurd h (by decide)
  · split at h
    · exact absurd h (by decide)
    · next c =>
      split at h
      · next c2 => exact c ⟨by omega, h2⟩
      · exact absurd h (by decide)
theorem circ_cases (G : Gr) (cnt : Nat → Bool) (C : Nat) : circ G cnt C = 0 ∨ circ G cnt C = 1 ∨ circ G cnt C = 2 ∨ circ G cnt C = 3 := by
  unfold circ
  split
  · simp
  · split
    · simp
    · split <;> simp
/-- in a way with nothing but circles 2 and 3 -/
theorem Est.flow (hY : Y.ok) (no1 : ∀ w, w < Y.W → circ Y.G (Y.cnt w) Y.C ≠ 1) {w m : Nat} (hw : w < Y.W) (hm : m < Y.G.nl) (hf : Y.fam.f w m ≠ 0) : (circ Y.G (Y.cnt w) Y.C = 2 ∨ circ Y.G (Y.cnt w) Y.C = 3) ∧ inn Y.G (Y.cnt w) (Y.G.chi m) = true ∧ ∃ r, r < Y.G.P ∧ rootQ Y.G (Y.cnt w) Y.C r ≠ 0 ∧ Y.G.b r ≤ Y.G.b (Y.G.par m) := by
  obtain ⟨a1, a2, a3⟩ := Fam.f_ne hf
  obtain ⟨r, h1, h2, h3⟩ := Fl_from (root := fun q => rootQ Y.G (Y.cnt w) Y.C q) hY.g _ (hY.g.lp m hm) a3
  unfold actv at a1
  rw [Bool.and_eq_true] at a1
  refine ⟨?_, a1.2, r, h1, h2, h3⟩
  rcases circ_cases Y.G (Y.cnt w) Y.C with c | c | c | c
  · exfalso
    apply root_ne h2
    unfold rwt
    rw [c, if_neg (by decide), if_neg (by decide), if_neg (by decide)]
  · exact absurd c (no1 w hw)
  · exact Or.inl c
  · exact Or.inr c
/-- three heads in one way and four in another: four lines or claims are idle -/
theorem Est.idle (hY : Y.ok) (no1 : ∀ w, w < Y.W → circ Y.G (Y.cnt w) Y.C ≠ 1) {i j m1 m2 : Nat} (hi : i < Y.G.nl) (hj : j < Y.G.nl) (hij : i ≠ j) (di : Y.G.chi i = Y.G.d ∧ Y.u i = true) (dj : Y.G.chi j = Y.G.d ∧ Y.u j = true)
    (only : ∀ k, k < Y.G.nl → Y.G.chi k = Y.G.d ∧ Y.u k = true → k = i ∨ k = j) (hb : Y.G.b (Y.G.par i) ≤ Y.G.b (Y.G.par j))
    (h1 : m1 < Y.G.nl) (h2 : m2 < Y.G.nl) (h12 : m1 ≠ m2) (c1 : Y.G.chi m1 = Y.G.par i ∧ Y.u m1 = true) (c2 : Y.G.chi m2 = Y.G.par i ∧ Y.u m2 = true) :
    4 ≤ SN Y.G.nl (fun l => if Y.u l = true ∧ ¬ Y.fam.on l = true then 1 else 0) + SN Y.G.nl (fun l => if Y.vy l = true ∧ ¬ Y.fam.op l = true then 1 else 0) := by
  have hG := hY.g
  have bi := hG.lb i hi
  have bj := hG.lb j hj
  rw [di.1] at bi
  rw [dj.1] at bj
  have oi : Y.u i = true ∧ ¬ Y.fam.on i = true := ⟨di.2, fun h => (Est.on_u h).2 di.1⟩
  have oj : Y.u j = true ∧ ¬ Y.fam.on j = true := ⟨dj.2, fun h => (Est.on_u h).2 dj.1⟩
  have opn : ∀ k, ¬ Y.fam.on k = true → ¬ Y.fam.op k = true := fun k h h2 => h (by
    unfold Fam.op at h2
    simp only [Bool.and_eq_true] at h2
    exact h2.1.1)
  -- a way of circle 2 starts no earlier than the elder parent
  have low2 : ∀ w m, w < Y.W → m < Y.G.nl → Y.fam.f w m ≠ 0 → Y.G.b (Y.G.par m) < Y.G.b (Y.G.par i) → circ Y.G (Y.cnt w) Y.C = 3 := by
    intro w m hw hm hf hlt
    obtain ⟨hc, _, r, hr1, hr2, hr3⟩ := Est.flow hY no1 hw hm hf
    rcases hc with c | c
    · exfalso
      obtain ⟨l, hl, l1, l2, l3⟩ := circ_2 c hr2
      rcases only l hl ⟨l1, Est.u_of hw l2⟩ with e | e
      · subst e; rw [← l3] at hr3; omega
      · subst e; rw [← l3] at hr3; omega
    · exact c
  have always : ∀ k, Y.u k = true → ¬ Y.vy k = true → ∀ w, w < Y.W → Y.cnt w k = true := fun k hu hv w hw => by
    refine Classical.byContradiction fun hc => hv ?_
    unfold Est.vy
    rw [hu, Bool.true_and, anyN_iff]
    exact ⟨w, hw, by simpa using hc⟩
  have pd : ∀ k, Y.G.chi k = Y.G.par i → k ≠ i ∧ k ≠ j := fun k hk => ⟨fun e => by
      subst e
      rw [di.1] at hk
      rw [← hk] at bi; omega, fun e => by
      subst e
      rw [dj.1] at hk
      rw [← hk] at bi; omega⟩
  have pdj : ∀ k, Y.G.chi k = Y.G.par j → k ≠ i ∧ k ≠ j := fun k hk => ⟨fun e => by
      subst e
      rw [di.1] at hk
      rw [← hk] at bj; omega, fun e => by
      subst e
      rw [dj.1] at hk
      rw [← hk] at bj; omega⟩
  by_cases vi : Y.vy i = true
  · have w1 : 1 ≤ SN Y.G.nl (fun l => if Y.vy l = true ∧ ¬ Y.fam.op l = true then 1 else 0) := SN_list [i] (fun l => Y.vy l = true ∧ ¬ Y.fam.op l = true) (by simp) (by
      intro z hz
      have e := List.mem_singleton.mp hz
      subst e; exact ⟨hi, vi, opn _ oi.2⟩)
    by_cases vj : Y.vy j = true
    · have w2 : 2 ≤ SN Y.G.nl (fun l => if Y.vy l = true ∧ ¬ Y.fam.op l = true then 1 else 0) := SN_list [i, j] (fun l => Y.vy l = true ∧ ¬ Y.fam.op l = true) (by simp [hij]) (by
        intro z hz
        rcases List.mem_cons.mp hz with e | hz
        · subst e; exact ⟨hi, vi, opn _ oi.2⟩
        · have e := List.mem_singleton.mp hz
          subst e; exact ⟨hj, vj, opn _ oj.2⟩)
      have w3 : 2 ≤ SN Y.G.nl (fun l => if Y.u l = true ∧ ¬ Y.fam.on l = true then 1 else 0) := SN_list [i, j] (fun l => Y.u l = true ∧ ¬ Y.fam.on l = true) (by simp [hij]) (by
        intro z hz
        rcases List.mem_cons.mp hz with e | hz
        · subst e; exact ⟨hi, oi⟩
        · have e := List.mem_singleton.mp hz
          subst e; exact ⟨hj, oj⟩)
      omega
    · -- one more line that is idle
      have more : ∃ k, k < Y.G.nl ∧ k ≠ i ∧ k ≠ j ∧ Y.u k = true ∧ ¬ Y.fam.on k = true := by
        by_cases o1 : Y.fam.on m1 = true
        · obtain ⟨w, hw, hf⟩ := Fam.on_iff.mp o1
          have bm := hG.lb m1 h1
          rw [c1.1] at bm
          have hc3 := low2 w m1 hw h1 hf bm
          obtain ⟨_, hin, r, hr1, hr2, hr3⟩ := Est.flow hY no1 hw h1 hf
          rw [c1.1] at hin
          obtain ⟨l, m, hl, hm, l1, l2, l3, l4, l5⟩ := circ_3 hc3 hr2
          have el : l = j := by
            rcases only l hl ⟨l1, Est.u_of hw l2⟩ with e | e
            · subst e
              exact absurd hin (circ_not2 hG hc3 hl l1 l2)
            · exact e
          subst el
          obtain ⟨p1, p2⟩ := pdj m l3
          refine ⟨m, hm, p1, p2, Est.u_of hw l4, fun om => ?_⟩
          obtain ⟨w', hw', hf'⟩ := Fam.on_iff.mp om
          have hc3' := low2 w' m hw' hm hf' (by rw [l5]; omega)
          obtain ⟨_, hin', _⟩ := Est.flow hY no1 hw' hm hf'
          rw [l3] at hin'
          exact absurd hin' (circ_not2 hG hc3' hl l1 (always l dj.2 vj w' hw'))
        · obtain ⟨p1, p2⟩ := pd m1 c1.1
          exact ⟨m1, h1, p1, p2, c1.2, o1⟩
      obtain ⟨k, hk, k1, k2, k3, k4⟩ := more
      have w3 : 3 ≤ SN Y.G.nl (fun l => if Y.u l = true ∧ ¬ Y.fam.on l = true then 1 else 0) := SN_list [i, j, k] (fun l => Y.u l = true ∧ ¬ Y.fam.on l = true) (by simp [hij, k1.symm, k2.symm]) (by
        intro z hz
        rcases List.mem_cons.mp hz with e | hz
        · subst e; exact ⟨hi, oi⟩
        · rcases List.mem_cons.mp hz with e | hz
          · subst e; exact ⟨hj, oj⟩
          · have e := List.mem_singleton.mp hz
            subst e; exact ⟨hk, k3, k4⟩)
      omega
  · -- the elder parent is always a head: its lines are idle
    have off : ∀ m, m < Y.G.nl → Y.G.chi m = Y.G.par i → ¬ Y.fam.on m = true := fun m hm hc om => by
      obtain ⟨w, hw, hf⟩ := Fam.on_iff.mp om
      have bm := hG.lb m hm
      rw [hc] at bm
      have hc3 := low2 w m hw hm hf bm
      obtain ⟨_, hin, _⟩ := Est.flow hY no1 hw hm hf
      rw [hc] at hin
      exact absurd hin (circ_not2 hG hc3 hi di.1 (always i di.2 vi w hw))
    obtain ⟨p1, p2⟩ := pd m1 c1.1
    obtain ⟨p3, p4⟩ := pd m2 c2.1
    have w3 : 4 ≤ SN Y.G.nl (fun l => if Y.u l = true ∧ ¬ Y.fam.on l = true then 1 else 0) := SN_list [i, j, m1, m2] (fun l => Y.u l = true ∧ ¬ Y.fam.on l = true) (by simp [hij, p1.symm, p2.symm, p3.symm, p4.symm, h12]) (by
      intro z hz
      rcases List.mem_cons.mp hz with e | hz
      · subst e; exact ⟨hi, oi⟩
      · rcases List.mem_cons.mp hz with e | hz
        · subst e; exact ⟨hj, oj⟩
        · rcases List.mem_cons.mp hz with e | hz
          · subst e; exact ⟨h1, c1.2, off _ h1 c1.1⟩
          · have e := List.mem_singleton.mp hz
            subst e; exact ⟨h2, c2.2, off _ h2 c2.1⟩)
    omega
/-- four heads: two lines into d, two into each parent -/
theorem Est.four (hY : Y.ok) (ht : Y.t = 2) {w : Nat} (hw : w < Y.W) (h4 : htot Y.G (Y.cnt w) Y.C = 4) : circ Y.G (Y.cnt w) Y.C = 3 ∧ ∃ i j m1 m2 m3 m4, i < Y.G.nl ∧ j < Y.G.nl ∧ i ≠ j ∧ (Y.G.chi i = Y.G.d ∧ Y.u i = true) ∧ (Y.G.chi j = Y.G.d ∧ Y.u j = true) ∧ (∀ k, k < Y.G.nl → Y.G.chi k = Y.G.d ∧ Y.u k = true → k = i ∨ k = j) ∧
    m1 < Y.G.nl ∧ m2 < Y.G.nl ∧ m1 ≠ m2 ∧ (Y.G.chi m1 = Y.G.par i ∧ Y.u m1 = true) ∧ (Y.G.chi m2 = Y.G.par i ∧ Y.u m2 = true) ∧ m3 < Y.G.nl ∧ m4 < Y.G.nl ∧ m3 ≠ m4 ∧ (Y.G.chi m3 = Y.G.par j ∧ Y.u m3 = true) ∧ (Y.G.chi m4 = Y.G.par j ∧ Y.u m4 = true) := by
  have hc : circ Y.G (Y.cnt w) Y.C = 3 := by
    rcases circ_cases Y.G (Y.cnt w) Y.C with c | c | c | c
    · have := Est.htot_0 (Y := Y) (w := w) (by omega) (by omega) (by omega)
      omega
    · have := Est.htot_1 hY c
      omega
    · have := Est.htot_2 hY hw c
      omega
    · exact c
  refine ⟨hc, ?_⟩
  obtain ⟨i, j, hi, hj, hij, di, dj, only⟩ := SN_pair (c := fun l => Y.G.chi l = Y.G.d ∧ Y.u l = true) ht
  have h1 : 4 ≤ SN Y.G.P Y.a3 := by
    rw [← h4]
    exact Nat.le_trans (Est.htot_3 hc) (SN_le fun q hq => Est.hd3_le hw q)
  unfold Est.a3 at h1
  rw [SN_swap] at h1
  have e : SN Y.G.nl (fun l => SN Y.G.P (fun q => if Y.G.chi l = Y.G.d ∧ Y.u l = true then SN Y.G.nl (fun m => if Y.G.par m = q ∧ (Y.G.chi m = Y.G.par l ∧ Y.u m = true) then 1 else 0) else 0)) = SN Y.G.nl (fun l => if Y.G.chi l = Y.G.d ∧ Y.u l = true then SN Y.G.nl (fun m => if Y.G.chi m = Y.G.par l ∧ Y.u m = true then 1 else 0) else 0) := by
    refine SN_congr fun l hl => ?_
    by_cases c : Y.G.chi l = Y.G.d ∧ Y.u l = true
    · rw [if_pos c, ← SN_by Y.G.par (fun m => Y.G.chi m = Y.G.par l ∧ Y.u m = true) hY.g.lp]
      exact SN_congr fun q hq => if_pos c
    · rw [if_neg c]
      exact (SN_congr fun q hq => if_neg c).trans (SN_zero Y.G.P)
  rw [e, SN_at2 hi hj hij (fun k hk k1 k2 => if_neg fun hc => by
    rcases only k hk hc with e | e
    · exact k1 e
    · exact k2 e), if_pos di, if_pos dj] at h1
  have t1 := hY.two (Y.G.par i)
  have t2 := hY.two (Y.G.par j)
  obtain ⟨m1, m2, a1, a2, a3, a4, a5, _⟩ := SN_pair (c := fun m => Y.G.chi m = Y.G.par i ∧ Y.u m = true) (n := Y.G.nl) (by omega)
  obtain ⟨m3, m4, b1, b2, b3, b4, b5, _⟩ := SN_pair (c := fun m => Y.G.chi m = Y.G.par j ∧ Y.u m = true) (n := Y.G.nl) (by omega)
  exact ⟨i, j, m1, m2, m3, m4, hi, hj, hij, di, dj, only, a1, a2, a3, a4, a5, b1, b2, b3, b4, b5⟩
/-- all greatest shares together, and one more for a spouse -/
def Est.T (Y : Est) : Rat := 1 + SQ Y.G.P (fun q => if Y.G.surv q = true then Y.fam.M q else 0)
theorem bnd_fin {L H a z : Nat} {T : Rat} {y : Rat} (h : (L : Nat) * (1 + T * (1/2)) ≤ y * (a : Nat)) (c : Nat) (hy : y * 2 = (c : Nat)) (hlt : H * c * a * z < 2 * 2 ^ 63) : ((H * L : Nat) : Rat) * (1 + T * (1/2)) * (z : Nat) < ((2 ^ 63 : Nat) : Rat) := by
  have h0 : (0 : Rat) ≤ ((H * z : Nat) : Rat) := by exact_mod_cast Nat.zero_le _
  have h1 := Rat.mul_le_mul_of_nonneg_left h h0
  have h2 : ((H * c * a * z : Nat) : Rat) < ((2 * 2 ^ 63 : Nat) : Rat) := by exact_mod_cast hlt
  simp only [Rat.natCast_mul] at h1 h2 ⊢
  rw [← hy] at h2
  have e2 : ((2 : Nat) : Rat) = 2 := rfl
  rw [e2] at h2
  have e : (H : Rat) * (y * 2) * (a : Nat) * (z : Nat) = 2 * ((H : Rat) * (z : Nat) * (y * (a : Nat))) := by grind
  rw [e] at h2
  have e3 : (H : Rat) * (L : Nat) * (1 + T * (1/2)) * (z : Nat) = (H : Rat) * (z : Nat) * ((L : Nat) * (1 + T * (1/2))) := by grind
  rw [e3]
  grind
theorem Est.bound (hY : Y.ok) : ∃ H : Nat, 0 < H ∧ (∀ w, w < Y.W → htot Y.G (Y.cnt w) Y.C ∣ H ∨ htot Y.G (Y.cnt w) Y.C = 0) ∧ (Y.nU ≤ 39 → ((H * Y.fam.L : Nat) : Rat) * (1 + Y.T * (1/2)) * ((11000 : Nat) : Rat) < ((2 ^ 63 : Nat) : Rat)) ∧ (Y.nU ≤ 40 → ((H * Y.fam.L : Nat) : Rat) * (1 + Y.T * (1/2)) * ((1000 : Nat) : Rat) < ((2 ^ 63 : Nat) : Rat)) := by
  have hX := Est.fam_ok hY
  have hN := fun p (_ : p < Y.fam.G.P) => Est.N_lt hY p
  have hRt := Est.Rt_sum hY
  have ht2 : Y.t ≤ 2 := hY.two Y.G.d
  have hw0 := Est.waste_t (Y := Y)
  have ho := hY.o8
  have hE := Est.waste (Y := Y) Y.t (by omega)
  -- R = 8 whatever
  have hR8 : 1 + SQ Y.fam.G.P Y.fam.Rt ≤ ((8 : Nat) : Rat) := by
    have h1 : ((1 + 3 * Y.t : Nat) : Rat) ≤ ((7 : Nat) : Rat) := by exact_mod_cast (by omega : 1 + 3 * Y.t ≤ 7)
    have e7 : ((7 : Nat) : Rat) = 7 := rfl
    have e8 : ((8 : Nat) : Rat) = 8 := rfl
    rw [e7] at h1
    rw [e8]
    have : SQ Y.fam.G.P Y.fam.Rt ≤ 7 := Rat.le_trans hRt h1
    grind
  have y8 : (1 + ((8 : Nat) : Rat) * (1/2)) * 2 = ((10 : Nat) : Rat) := by
    rw [show ((8 : Nat) : Rat) = 8 from rfl, show ((10 : Nat) : Rat) = 10 from rfl]; grind
  have y5 : (1 + ((5 : Nat) : Rat) * (1/2)) * 2 = ((7 : Nat) : Rat) := by
    rw [show ((5 : Nat) : Rat) = 5 from rfl, show ((7 : Nat) : Rat) = 7 from rfl]; grind
  have b8 : ∀ E, Y.fam.lines + Y.fam.opens ≤ E → E ≤ 48 → (Y.fam.L : Nat) * (1 + Y.T * (1/2)) ≤ (1 + ((8 : Nat) : Rat) * (1/2)) * (B8.getD E 0 : Nat) := fun E h1 h2 => Fam.bnd okB8 rfl (by decide) B8_mono hX hN h1 h2 hR8
  by_cases t0 : Y.t = 0
  · refine ⟨1, by decide, fun w hw => ?_, fun h => bnd_fin (b8 47 (by omega) (by decide)) 10 y8 (by decide), fun h => bnd_fin (b8 48 (by omega) (by decide)) 10 y8 (by decide)⟩
    rcases Est.htot_le hY hw with h | h
    · by_cases c : htot Y.G (Y.cnt w) Y.C = 0
      · exact Or.inr c
      · exact Or.inl (by rw [show htot Y.G (Y.cnt w) Y.C = 1 by omega]; exact Nat.dvd_refl 1)
    · exact Or.inr (by omega)
  · by_cases t1 : Y.t = 1
    · have hR5 : 1 + SQ Y.fam.G.P Y.fam.Rt ≤ ((5 : Nat) : Rat) := by
        have h1 : ((1 + 3 * Y.t : Nat) : Rat) ≤ ((4 : Nat) : Rat) := by exact_mod_cast (by omega : 1 + 3 * Y.t ≤ 4)
        rw [show ((4 : Nat) : Rat) = 4 from rfl] at h1
        rw [show ((5 : Nat) : Rat) = 5 from rfl]
        have : SQ Y.fam.G.P Y.fam.Rt ≤ 4 := Rat.le_trans hRt h1
        grind
      refine ⟨2, by decide, fun w hw => ?_, fun h => bnd_fin (Fam.bnd okB5 rfl (by decide) B5_mono hX hN (E := 46) (by omega) (by decide) hR5) 7 y5 (by decide), fun h => bnd_fin (b8 47 (by omega) (by decide)) 10 y8 (by decide)⟩
      have h2 : htot Y.G (Y.cnt w) Y.C ≤ 2 := by
        rcases Est.htot_le hY hw with h | h <;> omega
      by_cases c : htot Y.G (Y.cnt w) Y.C = 0
      · exact Or.inr c
      · by_cases c1 : htot Y.G (Y.cnt w) Y.C = 1
        · exact Or.inl (by rw [c1]; exact Nat.one_dvd 2)
        · exact Or.inl (by rw [show htot Y.G (Y.cnt w) Y.C = 2 by omega]; exact Nat.dvd_refl 2)
    · have t2 : Y.t = 2 := by omega
      have h4 : ∀ w, w < Y.W → htot Y.G (Y.cnt w) Y.C ≤ 4 := fun w hw => by
        rcases Est.htot_le hY hw with h | h <;> omega
      have dv : ∀ {n : Nat}, n ≤ 4 → n ≠ 0 → n ∣ 12 := by
        intro n h1 h2
        have : n = 1 ∨ n = 2 ∨ n = 3 ∨ n = 4 := by omega
        rcases this with rfl | rfl | rfl | rfl <;> decide
      by_cases n4 : ∃ w, w < Y.W ∧ htot Y.G (Y.cnt w) Y.C = 4
      · by_cases n3 : ∃ w, w < Y.W ∧ htot Y.G (Y.cnt w) Y.C = 3
        · refine ⟨12, by decide, fun w hw => ?_, fun h => ?_, fun h => bnd_fin (b8 46 (by omega) (by decide)) 10 y8 (by decide)⟩
          · by_cases c : htot Y.G (Y.cnt w) Y.C = 0
            · exact Or.inr c
            · exact Or.inl (dv (h4 w hw) c)
          · obtain ⟨w4, hw4, e4⟩ := n4
            obtain ⟨c3, i, j, m1, m2, m3, m4, hi, hj, hij, di, dj, only, a1, a2, a3, a4, a5, b1, b2, b3, b4, b5⟩ := Est.four hY t2 hw4 e4
            by_cases o1 : ∃ w, w < Y.W ∧ circ Y.G (Y.cnt w) Y.C = 1
            · obtain ⟨w1, hw1, e1⟩ := o1
              refine bnd_fin (Fam.bndD hX hY.dP hN (by omega) ?_ ?_ hR8) 10 y8 (by decide)
              · -- something comes down a line of d
                have htk : tks Y.G (Y.cnt w1) Y.G.d = true := by
                  unfold circ at e1
                  split at e1
                  · assumption
                  · split at e1
                    · exact absurd e1 (by decide)
                    · split at e1 <;> exact absurd e1 (by decide)
                obtain ⟨l, hl, l1, l2, l3⟩ := tks_iff.mp htk
                have hroot : rootQ Y.G (Y.cnt w1) Y.C Y.G.d = 1 := by
                  unfold rootQ
                  rw [Est.htot_1 hY e1]
                  unfold rwt
                  rw [if_pos e1, if_pos rfl, show ((1 : Nat) : Rat) = 1 from rfl]
                  grind
                have hF : Y.fam.F w1 (Y.fam.G.par l) ≠ 0 := by
                  rw [show Y.fam.G.par l = Y.G.d from l1]
                  have e : Y.fam.F w1 Y.G.d = rootQ Y.G (Y.cnt w1) Y.C Y.G.d + SQ Y.G.nl (fun k => if Y.G.chi k = Y.G.d then Y.fam.f w1 k else 0) := Fl_eq hY.g _
                  have h0 : 0 ≤ SQ Y.G.nl (fun k => if Y.G.chi k = Y.G.d then Y.fam.f w1 k else 0) := SQ_nonneg fun k hk => by
                    split
                    · exact fl_nonneg hY.g (hX.r0 w1 hw1) k hk
                    · exact Rat.le_refl
                  rw [hroot] at e
                  grind
                have hon := Fam.f_on hX hw1 hl (by unfold actv; rw [Bool.and_eq_true]; exact ⟨l2, l3⟩) (by rw [show Y.fam.G.par l = Y.G.d from l1]; exact hY.g.dd) hF
                exact SN_pos_iff.mpr ⟨l, hl, l1, hon.1⟩
              · have h1 : ¬ tks Y.G (Y.cnt w4) Y.G.d = true := fun h => by
                  unfold circ at c3
                  rw [if_pos h] at c3
                  exact absurd c3 (by decide)
                have h2 : ¬ 0 < Y.fam.n w4 Y.G.d := fun h => by
                  have h := nn_pos.mp h
                  obtain ⟨l, hl, l1, l2, l3⟩ := tks_iff.mp h
                  exact h1 (tks_iff.mpr ⟨l, hl, l1, Fam.cn_le l2, inn_mono hY.g (fun k hk => Fam.cn_le hk) _ (hY.g.lc l hl) l3⟩)
                have := Fam.c_le (X := Y.fam) (p := Y.G.d) hw4
                show Y.fam.c Y.G.d = 0
                omega
            · have no1 : ∀ w, w < Y.W → circ Y.G (Y.cnt w) Y.C ≠ 1 := fun w hw e => o1 ⟨w, hw, e⟩
              have hid : 4 ≤ SN Y.G.nl (fun l => if Y.u l = true ∧ ¬ Y.fam.on l = true then 1 else 0) + SN Y.G.nl (fun l => if Y.vy l = true ∧ ¬ Y.fam.op l = true then 1 else 0) := by
                by_cases hb : Y.G.b (Y.G.par i) ≤ Y.G.b (Y.G.par j)
                · exact Est.idle hY no1 hi hj hij di dj only hb a1 a2 a3 a4 a5
                · exact Est.idle hY no1 hj hi (Ne.symm hij) dj di (fun k hk h => (only k hk h).symm) (by omega) b1 b2 b3 b4 b5
              have := Est.waste (Y := Y) 4 hid
              exact bnd_fin (b8 43 (by omega) (by decide)) 10 y8 (by decide)
        · refine ⟨4, by decide, fun w hw => ?_, fun h => bnd_fin (b8 45 (by omega) (by decide)) 10 y8 (by decide), fun h => bnd_fin (b8 46 (by omega) (by decide)) 10 y8 (by decide)⟩
          by_cases c : htot Y.G (Y.cnt w) Y.C = 0
          · exact Or.inr c
          · have := h4 w hw
            have n3' : htot Y.G (Y.cnt w) Y.C ≠ 3 := fun e => n3 ⟨w, hw, e⟩
            have : htot Y.G (Y.cnt w) Y.C = 1 ∨ htot Y.G (Y.cnt w) Y.C = 2 ∨ htot Y.G (Y.cnt w) Y.C = 4 := by omega
            rcases this with e | e | e <;> (rw [e]; exact Or.inl (by decide))
      · refine ⟨6, by decide, fun w hw => ?_, fun h => bnd_fin (b8 45 (by omega) (by decide)) 10 y8 (by decide), fun h => bnd_fin (b8 46 (by omega) (by decide)) 10 y8 (by decide)⟩
        by_cases c : htot Y.G (Y.cnt w) Y.C = 0
        · exact Or.inr c
        · have := h4 w hw
          have n4' : htot Y.G (Y.cnt w) Y.C ≠ 4 := fun e => n4 ⟨w, hw, e⟩
          have : htot Y.G (Y.cnt w) Y.C = 1 ∨ htot Y.G (Y.cnt w) Y.C = 2 ∨ htot Y.G (Y.cnt w) Y.C = 3 := by omega
          rcases this with e | e | e <;> (rw [e]; exact Or.inl (by decide))
end
