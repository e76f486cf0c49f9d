section
variable {X : Fam}
theorem mono_of {B : List Nat} (h : (List.range 48).all (fun i => decide (B.getD i 0 ≤ B.getD (i + 1) 0)) = true) : ∀ {i j : Nat}, i ≤ j → j ≤ 48 → B.getD i 0 ≤ B.getD j 0 := by
  intro i j hij hj
  induction j with
  | zero =>
    have : i = 0 := by omega
    subst this; exact Nat.le_refl _
  | succ j ih =>
    by_cases c : i = j + 1
    · subst c; exact Nat.le_refl _
    · rw [List.all_eq_true] at h
      have h1 := of_decide_eq_true (h j (List.mem_range.mpr (by omega)))
      exact Nat.le_trans (ih (by omega) (by omega)) h1
theorem B5_mono {i j : Nat} (h : i ≤ j) (hj : j ≤ 48) : B5.getD i 0 ≤ B5.getD j 0 := mono_of (by decide +kernel) h hj
theorem B8_mono {i j : Nat} (h : i ≤ j) (hj : j ≤ 48) : B8.getD i 0 ≤ B8.getD j 0 := mono_of (by decide +kernel) h hj
/-- the bound by the table -/
theorem Fam.bnd {R E : Nat} {B : List Nat} {x : Rat} (hB : okB R B = true) (hBl : B.length = 49) (hB0 : 1 ≤ B.getD 0 0) (hBm : ∀ {i j : Nat}, i ≤ j → j ≤ 48 → B.getD i 0 ≤ B.getD j 0) (hX : X.ok) (hN : ∀ p, p < X.G.P → X.N p < 24) (hE : X.lines + X.opens ≤ E) (hE2 : E ≤ 48) (hR : x + SQ X.G.P X.Rt ≤ (R : Nat)) :
    (X.L : Nat) * (1 + (x + SQ X.G.P (fun q => if X.G.surv q = true then X.M q else 0)) * (1/2)) ≤ (1 + (R : Nat) * (1/2)) * (B.getD E 0 : Nat) := by
  have h1 := Fam.LT hX hR
  have h2 := Fam.weights hX
  have h3 := knapG (n := X.G.P) (g := fun p => gq R (X.N p) (X.c p)) (e := X.e) hB0 (fun p hp => gq_nonneg (Fam.c_N hX p)) (fun p hp y hy => Fam.gstep hB hX (hN p hp) y hy) (by omega)
  have h4 : ((B.getD (SN X.G.P X.e) 0 : Nat) : Rat) ≤ (B.getD E 0 : Nat) := by exact_mod_cast hBm (by omega) hE2
  have h5 : 0 ≤ 1 + ((R : Nat) : Rat) * (1/2) := by
    have : (0 : Rat) ≤ (R : Nat) := by exact_mod_cast Nat.zero_le _
    grind
  exact Rat.le_trans h1 (Rat.mul_le_mul_of_nonneg_left (Rat.le_trans h3 h4) h5)
theorem PQ_split {n k : Nat} (f : Nat → Rat) (hk : k < n) : PQ n f = f k * PQ n (fun i => if k = i then 1 else f i) := by
  induction n with
  | zero => omega
  | succ n ih =>
    simp only [PQ]
    by_cases c : k = n
    · subst c
      rw [if_pos rfl]
      have : PQ k (fun i => if k = i then 1 else f i) = PQ k f := PQ_congr fun i hi => if_neg (by omega)
      rw [this]; grind
    · rw [if_neg c, ih (by omega)]; grind
theorem SN_split {n k : Nat} (f : Nat → Nat) (hk : k < n) : SN n f = f k + SN n (fun i => if k = i then 0 else f i) := by
  induction n with
  | zero => omega
  | succ n ih =>
    simp only [SN]
    by_cases c : k = n
    · subst c
      rw [if_pos rfl]
      have : SN k (fun i => if k = i then 0 else f i) = SN k f := SN_congr fun i hi => if_neg (by omega)
      rw [this]; omega
    · rw [if_neg c, ih (by omega)]; omega
/-- d takes no part for sure: its lines weigh twice -/
theorem d8 : (List.range 23).all (fun k => decide (lc 0 (k + 1) * (1 * (2 + 8) + (k + 1 - 1)) * B8.getD (45 - 2 * (k + 1)) 0 ≤ B8.getD 43 0 * (1 * (2 + 8)))) = true := by decide +kernel
theorem Fam.bndD {x : Rat} (hX : X.ok) (hd : X.G.d < X.G.P) (hN : ∀ p, p < X.G.P → X.N p < 24) (hE : X.lines + X.opens ≤ 45) (hN1 : 0 < X.N X.G.d) (hc : X.c X.G.d = 0) (hR : x + SQ X.G.P X.Rt ≤ ((8 : Nat) : Rat)) :
    (X.L : Nat) * (1 + (x + SQ X.G.P (fun q => if X.G.surv q = true then X.M q else 0)) * (1/2)) ≤ (1 + ((8 : Nat) : Rat) * (1/2)) * (B8.getD 43 0 : Nat) := by
  have h1 := Fam.LT hX hR
  have h2 := Fam.weights hX
  have hed : X.e X.G.d = 2 * X.N X.G.d := by
    unfold Fam.e
    rw [if_neg (fun h => h.1 rfl), hc]; omega
  have hs := SN_split (k := X.G.d) X.e hd
  have h3 := knapG (B := B8) (n := X.G.P) (g := fun p => if X.G.d = p then 1 else gq 8 (X.N p) (X.c p)) (e := fun p => if X.G.d = p then 0 else X.e p) (by decide) (fun p hp => by
    show 0 ≤ (if X.G.d = p then 1 else gq 8 (X.N p) (X.c p))
    split
    · decide
    · exact gq_nonneg (Fam.c_N hX p)) (fun p hp y hy => by
    by_cases c : X.G.d = p
    · simp only [c, if_true]
      rw [Rat.one_mul]; exact Rat.le_refl
    · simp only [c, if_false] at hy ⊢
      exact Fam.gstep okB8 hX (hN p hp) y hy) (by have : B8.length = 49 := rfl
                                                  omega)
  have h4 : ((B8.getD (SN X.G.P (fun p => if X.G.d = p then 0 else X.e p)) 0 : Nat) : Rat) ≤ (B8.getD (45 - 2 * X.N X.G.d) 0 : Nat) := by exact_mod_cast B8_mono (by omega) (by omega)
  have h5 := PQ_split (k := X.G.d) (fun p => gq 8 (X.N p) (X.c p)) hd
  have hNd := hN _ hd
  have h6 : gq 8 (X.N X.G.d) (X.c X.G.d) * (B8.getD (45 - 2 * X.N X.G.d) 0 : Nat) ≤ (B8.getD 43 0 : Nat) := by
    refine gq_step (Fam.c_N hX _) ?_
    rw [hc]
    have h := d8
    rw [List.all_eq_true] at h
    have := of_decide_eq_true (h (X.N X.G.d - 1) (List.mem_range.mpr (by omega)))
    rw [Nat.sub_add_cancel hN1] at this
    exact this
  have h7 : 0 ≤ gq 8 (X.N X.G.d) (X.c X.G.d) := gq_nonneg (Fam.c_N hX _)
  have h8 := Rat.mul_le_mul_of_nonneg_left (Rat.le_trans h3 h4) h7
  have h9 : PQ X.G.P (fun p => gq 8 (X.N p) (X.c p)) ≤ (B8.getD 43 0 : Nat) := by rw [h5]; exact Rat.le_trans h8 h6
  exact Rat.le_trans h1 (Rat.mul_le_mul_of_nonneg_left h9 (by rw [show ((8 : Nat) : Rat) = 8 from rfl]; grind))
/-! AN ESTATE: where it starts -/
def hd2 (G : Gr) (cnt : Nat → Bool) (q : Nat) : Nat := SN G.nl (fun l => if G.par l = q ∧ (G.chi l = G.d ∧ cnt l = true) then 1 else 0)
def hd3 (G : Gr) (cnt : Nat → Bool) (q : Nat) : Nat := SN G.nl (fun l => if G.chi l = G.d ∧ cnt l = true then SN G.nl (fun m => if G.par m = q ∧ (G.chi m = G.par l ∧ cnt m = true) then 1 else 0) else 0)
def hs (G : Gr) (cnt : Nat → Bool) (hd : Nat → Nat) : Nat := SN G.P (fun q => if inn G cnt q = true then hd q else 0)
def circ (G : Gr) (cnt : Nat → Bool) (C : Nat) : Nat := if tks G cnt G.d = true then 1 else if 2 ≤ C ∧ 0 < hs G cnt (hd2 G cnt) then 2 else if 3 ≤ C ∧ 0 < hs G cnt (hd3 G cnt) then 3 else 0
def rwt (G : Gr) (cnt : Nat → Bool) (C q : Nat) : Nat := if circ G cnt C = 1 then (if G.d = q then 1 else 0) else if circ G cnt C = 2 then (if inn G cnt q = true then hd2 G cnt q else 0) else if circ G cnt C = 3 then (if inn G cnt q = true then hd3 G cnt q else 0) else 0
def htot (G : Gr) (cnt : Nat → Bool) (C : Nat) : Nat := SN G.P (rwt G cnt C)
def rootQ (G : Gr) (cnt : Nat → Bool) (C q : Nat) : Rat := (rwt G cnt C q : Nat) / (htot G cnt C : Nat)
theorem root_nonneg (G : Gr) (cnt : Nat → Bool) (C q : Nat) : 0 ≤ rootQ G cnt C q := rdiv_nonneg _ (by exact_mod_cast Nat.zero_le _)
theorem root_sum (G : Gr) (cnt : Nat → Bool) (C : Nat) : SQ G.P (rootQ G cnt C) ≤ 1 := by
  have e : SQ G.P (rootQ G cnt C) = ((htot G cnt C : Nat) : Rat)⁻¹ * (htot G cnt C : Nat) := by
    conv => rhs; rhs; unfold htot
    rw [SQ_cast, ← SQ_mul]
    refine SQ_congr fun q hq => ?_
    unfold rootQ
    rw [Rat.div_def, Rat.mul_comm]
  rw [e]
  rcases Nat.eq_zero_or_pos (htot G cnt C) with h | h
  · rw [h, show ((0 : Nat) : Rat) = 0 from rfl, Rat.mul_zero]; decide
  · rw [Rat.inv_mul_cancel _ (rat_pos_ne h).1]; exact Rat.le_refl
theorem root_den (G : Gr) (cnt : Nat → Bool) (C : Nat) {H : Nat} (h : htot G cnt C ∣ H) (q : Nat) : isZ (H * rootQ G cnt C q) := by
  obtain ⟨k, rfl⟩ := h
  unfold rootQ
  rcases Nat.eq_zero_or_pos (htot G cnt C) with h | h
  · rw [h, show ((0 * k : Nat) : Rat) = 0 by rw [Nat.zero_mul]; rfl, Rat.zero_mul]; exact isZ_0
  · have : ((htot G cnt C * k : Nat) : Rat) * ((rwt G cnt C q : Nat) / (htot G cnt C : Nat)) = ((k * rwt G cnt C q : Nat) : Rat) := by
      obtain ⟨h1, _⟩ := rat_pos_ne h
      simp only [Rat.natCast_mul]
      grind
    rw [this]; exact isZ_nat _
theorem root_le {G : Gr} {cnt : Nat → Bool} {C q : Nat} (hq : q < G.P) : rootQ G cnt C q ≤ (rwt G cnt C q : Nat) := by
  unfold rootQ
  rcases Nat.eq_zero_or_pos (rwt G cnt C q) with h | h
  · rw [h, show ((0 : Nat) : Rat) = 0 from rfl]
    have := rdiv_nonneg (htot G cnt C) (a := 0) Rat.le_refl
    rw [Rat.div_def, Rat.zero_mul]; exact Rat.le_refl
  · have h2 : 1 ≤ htot G cnt C := by
      have := SN_term (f := rwt G cnt C) hq
      unfold htot; omega
    obtain ⟨a1, a2⟩ := rat_pos_ne (show 0 < htot G cnt C by omega)
    have a3 : (1 : Rat) ≤ (htot G cnt C : Nat) := by exact_mod_cast h2
    have a4 := Rat.mul_le_mul_of_nonneg_right a3 (c := ((htot G cnt C : Nat) : Rat)⁻¹) (Rat.le_of_lt (Rat.inv_pos.mpr a2))
    rw [Rat.mul_inv_cancel _ a1, Rat.one_mul] at a4
    have a5 : (0 : Rat) ≤ (rwt G cnt C q : Nat) := by exact_mod_cast Nat.zero_le _
    have := Rat.mul_le_mul_of_nonneg_left a4 a5
    rw [Rat.div_def]; grind
theorem root_ne {G : Gr} {cnt : Nat → Bool} {C q : Nat} (h : rootQ G cnt C q ≠ 0) : rwt G cnt C q ≠ 0 := by
  intro e
  apply h
  unfold rootQ
  rw [e, show ((0 : Nat) : Rat) = 0 from rfl, Rat.div_def, Rat.zero_mul]
/-- where something comes, it started no later -/
theorem Fl_from {G : Gr} {cnt : Nat → Bool} {root : Nat → Rat} (hG : G.ok) : ∀ q, q < G.P → Fl G cnt root q ≠ 0 → ∃ r, r < G.P ∧ root r ≠ 0 ∧ G.b r ≤ G.b q := by
  have key : ∀ n q, G.b q < n → q < G.P → Fl G cnt root q ≠ 0 → ∃ r, r < G.P ∧ root r ≠ 0 ∧ G.b r ≤ G.b q := by
    intro n
    induction n with
    | zero => intro q h; omega
    | succ n ih =>
      intro q hq hP hF
      by_cases c : root q = 0
      · by_cases c2 : ∃ l, l < G.nl ∧ G.chi l = q ∧ fl G cnt root l ≠ 0
        · obtain ⟨l, hl, e, hf⟩ := c2
          have hb := hG.lb l hl
          have hne : Fl G cnt root (G.par l) ≠ 0 := by
            intro e0
            apply hf
            unfold fl
            rw [e0]
            split <;> grind
          obtain ⟨r, h1, h2, h3⟩ := ih (G.par l) (by rw [← e] at hq; omega) (hG.lp l hl) hne
          exact ⟨r, h1, h2, by rw [← e]; omega⟩
        · exfalso
          apply hF
          rw [Fl_eq hG, c]
          have : SQ G.nl (fun l => if G.chi l = q then fl G cnt root l else 0) = 0 := by
            refine (SQ_congr fun l hl => ?_).trans (SQ_zero G.nl)
            by_cases c3 : G.chi l = q
            · rw [if_pos c3]
              exact Classical.byContradiction fun hf => c2 ⟨l, hl, c3, hf⟩
            · exact if_neg c3
          rw [this]; grind
      · exact ⟨q, hP, c, Nat.le_refl _⟩
  intro q hP
  exact key _ q (Nat.lt_succ_self _) hP
end
