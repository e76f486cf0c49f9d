section
/-! SUMS AND PRODUCTS over the first n numbers -/
def SQ : Nat → (Nat → Rat) → Rat
  | 0, _ => 0
  | n + 1, f => SQ n f + f n
def SN : Nat → (Nat → Nat) → Nat
  | 0, _ => 0
  | n + 1, f => SN n f + f n
def PN : Nat → (Nat → Nat) → Nat
  | 0, _ => 1
  | n + 1, f => PN n f * f n
def anyN : Nat → (Nat → Bool) → Bool
  | 0, _ => false
  | n + 1, f => anyN n f || f n
theorem anyN_iff {n : Nat} {f : Nat → Bool} : anyN n f = true ↔ ∃ i, i < n ∧ f i = true := by
  induction n with
  | zero => simp [anyN]
  | succ n ih =>
    simp only [anyN, Bool.or_eq_true, ih]
    constructor
    · rintro (⟨i, h, e⟩ | e)
      · exact ⟨i, by omega, e⟩
      · exact ⟨n, by omega, e⟩
    · rintro ⟨i, h, e⟩
      by_cases c : i = n
      · subst c; exact Or.inr e
      · exact Or.inl ⟨i, by omega, e⟩
theorem SQ_congr {n : Nat} {f g : Nat → Rat} (h : ∀ i, i < n → f i = g i) : SQ n f = SQ n g := by
  induction n with
  | zero => rfl
  | succ n ih => simp only [SQ]; rw [ih fun i hi => h i (by omega), h n (by omega)]
theorem SN_congr {n : Nat} {f g : Nat → Nat} (h : ∀ i, i < n → f i = g i) : SN n f = SN n g := by
  induction n with
  | zero => rfl
  | succ n ih => simp only [SN]; rw [ih fun i hi => h i (by omega), h n (by omega)]
theorem PN_congr {n : Nat} {f g : Nat → Nat} (h : ∀ i, i < n → f i = g i) : PN n f = PN n g := by
  induction n with
  | zero => rfl
  | succ n ih => simp only [PN]; rw [ih fun i hi => h i (by omega), h n (by omega)]
theorem SQ_le {n : Nat} {f g : Nat → Rat} (h : ∀ i, i < n → f i ≤ g i) : SQ n f ≤ SQ n g := by
  induction n with
  | zero => exact Rat.le_refl
  | succ n ih =>
    have h1 := ih fun i hi => h i (by omega)
    have h2 := h n (by omega)
    simp only [SQ]; grind
theorem SN_le {n : Nat} {f g : Nat → Nat} (h : ∀ i, i < n → f i ≤ g i) : SN n f ≤ SN n g := by
  induction n with
  | zero => exact Nat.le_refl _
  | succ n ih =>
    have h1 := ih fun i hi => h i (by omega)
    have h2 := h n (by omega)
    simp only [SN]; omega
theorem SQ_zero (n : Nat) : SQ n (fun _ => 0) = 0 := by
  induction n with
  | zero => rfl
  | succ n ih => simp only [SQ]; grind
theorem SN_zero (n : Nat) : SN n (fun _ => 0) = 0 := by
  induction n with
  | zero => rfl
  | succ n ih => simp only [SN]; omega
theorem SQ_nonneg {n : Nat} {f : Nat → Rat} (h : ∀ i, i < n → 0 ≤ f i) : 0 ≤ SQ n f := by
  have := SQ_le (f := fun _ => 0) (g := f) (n := n) h
  rwa [SQ_zero] at this
theorem SQ_add (n : Nat) (f g : Nat → Rat) : SQ n (fun i => f i + g i) = SQ n f + SQ n g := by
  induction n with
  | zero => simp only [SQ]; grind
  | succ n ih => simp only [SQ, ih]; grind
theorem SQ_sub (n : Nat) (f g : Nat → Rat) : SQ n (fun i => f i - g i) = SQ n f - SQ n g := by
  induction n with
  | zero => simp only [SQ]; grind
  | succ n ih => simp only [SQ, ih]; grind
theorem SN_add (n : Nat) (f g : Nat → Nat) : SN n (fun i => f i + g i) = SN n f + SN n g := by
  induction n with
  | zero => rfl
  | succ n ih => simp only [SN, ih]; omega
theorem SQ_mul (n : Nat) (c : Rat) (f : Nat → Rat) : SQ n (fun i => c * f i) = c * SQ n f := by
  induction n with
  | zero => simp [SQ]
  | succ n ih => simp only [SQ, ih]; grind
theorem SQ_swap (n m : Nat) (f : Nat → Nat → Rat) : SQ n (fun i => SQ m (fun j => f i j)) = SQ m (fun j => SQ n (fun i => f i j)) := by
  induction n with
  | zero => simp only [SQ]; rw [SQ_zero]
  | succ n ih => simp only [SQ, ih]; rw [← SQ_add]
theorem SN_swap (n m : Nat) (f : Nat → Nat → Nat) : SN n (fun i => SN m (fun j => f i j)) = SN m (fun j => SN n (fun i => f i j)) := by
  induction n with
  | zero => simp only [SN]; rw [SN_zero]
  | succ n ih => simp only [SN, ih]; rw [← SN_add]
theorem SQ_one (n k : Nat) (x : Nat → Rat) : SQ n (fun i => if k = i then x i else 0) = if k < n then x k else 0 := by
  induction n with
  | zero => simp [SQ]
  | succ n ih =>
    simp only [SQ, ih]
    by_cases c : k = n
    · subst c; rw [if_neg (by omega), if_pos rfl, if_pos (by omega)]; grind
    · by_cases c2 : k < n
      · rw [if_pos c2, if_neg c, if_pos (by omega)]; grind
      · rw [if_neg c2, if_neg c, if_neg (by omega)]; grind
theorem SN_one (n k : Nat) (x : Nat → Nat) : SN n (fun i => if k = i then x i else 0) = if k < n then x k else 0 := by
  induction n with
  | zero => simp [SN]
  | succ n ih =>
    simp only [SN, ih]
    by_cases c : k = n
    · subst c; simp
    · by_cases c2 : k < n
      · rw [if_pos c2, if_neg c, if_pos (by omega), Nat.add_zero]
      · rw [if_neg c2, if_neg c, if_neg (by omega)]
theorem SQ_term {n k : Nat} {f : Nat → Rat} (h : ∀ i, i < n → 0 ≤ f i) (hk : k < n) : f k ≤ SQ n f := by
  have h1 : SQ n (fun i => if k = i then f i else 0) ≤ SQ n f := SQ_le fun i hi => by
    by_cases c : k = i
    · rw [if_pos c]; exact Rat.le_refl
    · rw [if_neg c]; exact h i hi
  rw [SQ_one, if_pos hk] at h1
  exact h1
theorem SN_term {n k : Nat} {f : Nat → Nat} (hk : k < n) : f k ≤ SN n f := by
  have h1 : SN n (fun i => if k = i then f i else 0) ≤ SN n f := SN_le fun i hi => by
    by_cases c : k = i
    · rw [if_pos c]; exact Nat.le_refl _
    · rw [if_neg c]; exact Nat.zero_le _
  rw [SN_one, if_pos hk] at h1
  exact h1
theorem SQ_cast (n : Nat) (f : Nat → Nat) : ((SN n f : Nat) : Rat) = SQ n (fun i => (f i : Rat)) := by
  induction n with
  | zero => rfl
  | succ n ih => simp only [SQ, SN, Rat.natCast_add, ih]
theorem PN_pos {n : Nat} {f : Nat → Nat} (h : ∀ i, i < n → 0 < f i) : 0 < PN n f := by
  induction n with
  | zero => exact Nat.one_pos
  | succ n ih => simp only [PN]; exact Nat.mul_pos (ih fun i hi => h i (by omega)) (h n (by omega))
theorem PN_dvd {n : Nat} {f g : Nat → Nat} (h : ∀ i, i < n → f i ∣ g i) : PN n f ∣ PN n g := by
  induction n with
  | zero => exact Nat.dvd_refl _
  | succ n ih => simp only [PN]; exact Nat.mul_dvd_mul (ih fun i hi => h i (by omega)) (h n (by omega))
theorem PN_le {n : Nat} {f g : Nat → Nat} (h : ∀ i, i < n → f i ≤ g i) : PN n f ≤ PN n g := by
  induction n with
  | zero => exact Nat.le_refl _
  | succ n ih => simp only [PN]; exact Nat.mul_le_mul (ih fun i hi => h i (by omega)) (h n (by omega))
theorem PN_mul (n : Nat) (f g : Nat → Nat) : PN n (fun i => f i * g i) = PN n f * PN n g := by
  induction n with
  | zero => rfl
  | succ n ih => simp only [PN, ih]; rw [Nat.mul_mul_mul_comm]
theorem PN_ones (n : Nat) : PN n (fun _ => 1) = 1 := by
  induction n with
  | zero => rfl
  | succ n ih => simp only [PN, ih]
theorem PN_one (n k : Nat) (x : Nat → Nat) : PN n (fun i => if k = i then x i else 1) = if k < n then x k else 1 := by
  induction n with
  | zero => simp [PN]
  | succ n ih =>
    simp only [PN, ih]
    by_cases c : k = n
    · subst c; simp
    · by_cases c2 : k < n
      · rw [if_pos c2, if_neg c, if_pos (by omega), Nat.mul_one]
      · rw [if_neg c2, if_neg c, if_neg (by omega)]
/-! A GRAPH OF LINES, and what comes down in it -/
def Gr : Type := Nat × Nat × (Nat → Nat) × (Nat → Nat) × (Nat → Nat) × (Nat → Bool) × Nat
def Gr.P (G : Gr) : Nat := G.1
def Gr.nl (G : Gr) : Nat := G.2.1
def Gr.par (G : Gr) : Nat → Nat := G.2.2.1
def Gr.chi (G : Gr) : Nat → Nat := G.2.2.2.1
def Gr.b (G : Gr) : Nat → Nat := G.2.2.2.2.1
def Gr.surv (G : Gr) : Nat → Bool := G.2.2.2.2.2.1
def Gr.d (G : Gr) : Nat := G.2.2.2.2.2.2
def Gr.ok (G : Gr) : Prop := (∀ l, l < G.nl → G.par l < G.P) ∧ (∀ l, l < G.nl → G.chi l < G.P) ∧ (∀ l, l < G.nl → G.b (G.par l) < G.b (G.chi l)) ∧ (∀ p, p < G.P → G.b p ≤ 100000) ∧ G.surv G.d = false
theorem Gr.ok.lp {G : Gr} (h : G.ok) : ∀ l, l < G.nl → G.par l < G.P := h.1
theorem Gr.ok.lc {G : Gr} (h : G.ok) : ∀ l, l < G.nl → G.chi l < G.P := h.2.1
theorem Gr.ok.lb {G : Gr} (h : G.ok) : ∀ l, l < G.nl → G.b (G.par l) < G.b (G.chi l) := h.2.2.1
theorem Gr.ok.top {G : Gr} (h : G.ok) : ∀ p, p < G.P → G.b p ≤ 100000 := h.2.2.2.1
theorem Gr.ok.dd {G : Gr} (h : G.ok) : G.surv G.d = false := h.2.2.2.2
/-- a person takes, or someone of its issue -/
def inn (G : Gr) (cnt : Nat → Bool) (p : Nat) : Bool :=
  p != G.d && (G.surv p || anyN G.nl (fun l => if _h : G.par l = p ∧ cnt l = true ∧ G.b p < G.b (G.chi l) ∧ G.b (G.chi l) ≤ 100000 then inn G cnt (G.chi l) else false))
termination_by 100001 - G.b p
decreasing_by omega
def tks (G : Gr) (cnt : Nat → Bool) (p : Nat) : Bool := anyN G.nl (fun l => decide (G.par l = p) && cnt l && inn G cnt (G.chi l))
theorem tks_iff {G : Gr} {cnt : Nat → Bool} {p : Nat} : tks G cnt p = true ↔ ∃ l, l < G.nl ∧ G.par l = p ∧ cnt l = true ∧ inn G cnt (G.chi l) = true := by
  unfold tks
  rw [anyN_iff]
  simp [and_assoc]
theorem inn_eq {G : Gr} {cnt : Nat → Bool} (hG : G.ok) (p : Nat) : inn G cnt p = (p != G.d && (G.surv p || tks G cnt p)) := by
  rw [inn]
  congr 2
  rw [Bool.eq_iff_iff, anyN_iff, tks_iff]
  constructor
  · rintro ⟨l, hl, h⟩
    split at h
    · next c => exact ⟨l, hl, c.1, c.2.1, h⟩
    · exact absurd h (by simp)
  · rintro ⟨l, hl, h1, h2, h3⟩
    refine ⟨l, hl, ?_⟩
    rw [dif_pos ⟨h1, h2, by rw [← h1]; exact hG.lb l hl, hG.top _ (hG.lc l hl)⟩]
    exact h3
def actv (G : Gr) (cnt : Nat → Bool) (l : Nat) : Bool := cnt l && inn G cnt (G.chi l)
def nn (G : Gr) (cnt : Nat → Bool) (p : Nat) : Nat := SN G.nl (fun l => if G.par l = p ∧ actv G cnt l = true then 1 else 0)
theorem SN_pos_iff {n : Nat} {c : Nat → Prop} [DecidablePred c] : 0 < SN n (fun i => if c i then 1 else 0) ↔ ∃ i, i < n ∧ c i := by
  induction n with
  | zero => simp [SN]
  | succ n ih =>
    simp only [SN]
    constructor
    · intro h
      by_cases e : c n
      · exact ⟨n, by omega, e⟩
      · rw [if_neg e, Nat.add_zero] at h
        obtain ⟨i, hi, hc⟩ := ih.mp h
        exact ⟨i, by omega, hc⟩
    · rintro ⟨i, hi, hc⟩
      by_cases e : i = n
      · subst e; rw [if_pos hc]; omega
      · have := ih.mpr ⟨i, by omega, hc⟩
        omega
theorem nn_pos {G : Gr} {cnt : Nat → Bool} {p : Nat} : 0 < nn G cnt p ↔ tks G cnt p = true := by
  unfold nn
  rw [SN_pos_iff, tks_iff]
  simp [actv]
/-- what comes to a person -/
def Fl (G : Gr) (cnt : Nat → Bool) (root : Nat → Rat) (q : Nat) : Rat :=
  root q + SQ G.nl (fun l => if _h : G.chi l = q ∧ actv G cnt l = true ∧ G.surv (G.par l) = false ∧ G.b (G.par l) < G.b q then Fl G cnt root (G.par l) / (nn G cnt (G.par l) : Nat) else 0)
termination_by G.b q
decreasing_by omega
/-- what comes down a line -/
def fl (G : Gr) (cnt : Nat → Bool) (root : Nat → Rat) (l : Nat) : Rat := if actv G cnt l = true ∧ G.surv (G.par l) = false then Fl G cnt root (G.par l) / (nn G cnt (G.par l) : Nat) else 0
theorem Fl_eq {G : Gr} {cnt : Nat → Bool} {root : Nat → Rat} (hG : G.ok) (q : Nat) : Fl G cnt root q = root q + SQ G.nl (fun l => if G.chi l = q then fl G cnt root l else 0) := by
  rw [Fl]
  congr 1
  refine SQ_congr fun l hl => ?_
  by_cases c : G.chi l = q
  · rw [if_pos c]
    unfold fl
    by_cases c2 : actv G cnt l = true ∧ G.surv (G.par l) = false
    · rw [if_pos c2, dif_pos ⟨c, c2.1, c2.2, by rw [← c]; exact hG.lb l hl⟩]
    · rw [if_neg c2, dif_neg (fun h => c2 ⟨h.2.1, h.2.2.1⟩)]
  · rw [if_neg c, dif_neg (fun h => c h.1)]
theorem rdiv_nonneg {a : Rat} (n : Nat) (h : 0 ≤ a) : 0 ≤ a / (n : Rat) := by
  rw [Rat.div_def]
  refine Rat.mul_nonneg h ?_
  rcases Nat.eq_zero_or_pos n with e | e
  · subst e; rw [show ((0 : Nat) : Rat) = 0 from rfl, Rat.inv_zero]; exact Rat.le_refl
  · exact Rat.le_of_lt (Rat.inv_pos.mpr (by exact_mod_cast e))
theorem Fl_nonneg {G : Gr} {cnt : Nat → Bool} {root : Nat → Rat} (hG : G.ok) (hr : ∀ q, q < G.P → 0 ≤ root q) : ∀ q, q < G.P → 0 ≤ Fl G cnt root q := by
  have key : ∀ n q, G.b q < n → q < G.P → 0 ≤ Fl G cnt root q := by
    intro n
    induction n with
    | zero => intro q h; omega
    | succ n ih =>
      intro q hq hP
      rw [Fl_eq hG]
      have h1 := hr q hP
      have h2 : 0 ≤ SQ G.nl (fun l => if G.chi l = q then fl G cnt root l else 0) := SQ_nonneg fun l hl => by
        by_cases c : G.chi l = q
        · rw [if_pos c]
          unfold fl
          split
          · have := hG.lb l hl
            exact rdiv_nonneg _ (ih _ (by rw [← c] at hq; omega) (hG.lp l hl))
          · exact Rat.le_refl
        · rw [if_neg c]; exact Rat.le_refl
      grind
  intro q hP
  exact key _ q (Nat.lt_succ_self _) hP
theorem fl_nonneg {G : Gr} {cnt : Nat → Bool} {root : Nat → Rat} (hG : G.ok) (hr : ∀ q, q < G.P → 0 ≤ root q) (l : Nat) (hl : l < G.nl) : 0 ≤ fl G cnt root l := by
  unfold fl
  split
  · exact rdiv_nonneg _ (Fl_nonneg hG hr _ (hG.lp l hl))
  · exact Rat.le_refl
/-- what a person hands on -/
theorem out_eq {G : Gr} {cnt : Nat → Bool} {root : Nat → Rat} (p : Nat) : SQ G.nl (fun l => if G.par l = p then fl G cnt root l else 0) = if G.surv p = false ∧ 0 < nn G cnt p then Fl G cnt root p else 0 := by
  have e : SQ G.nl (fun l => if G.par l = p then fl G cnt root l else 0) = SQ G.nl (fun l => (if G.surv p = false then Fl G cnt root p / (nn G cnt p : Nat) else 0) * ((if G.par l = p ∧ actv G cnt l = true then 1 else 0 : Nat) : Rat)) := by
    refine SQ_congr fun l hl => ?_
    by_cases c : G.par l = p
    · rw [if_pos c]
      subst c
      unfold fl
      by_cases c2 : actv G cnt l = true
      · by_cases c3 : G.surv (G.par l) = false
        · rw [if_pos ⟨c2, c3⟩, if_pos c3, if_pos ⟨rfl, c2⟩]
          have : ((1 : Nat) : Rat) = 1 := rfl
          grind
        · rw [if_neg (show ¬ (actv G cnt l = true ∧ G.surv (G.par l) = false) from fun h => c3 h.2), if_neg c3]
          grind
      · rw [if_neg (show ¬ (actv G cnt l = true ∧ G.surv (G.par l) = false) from fun h => c2 h.1), if_neg (show ¬ (G.par l = G.par l ∧ actv G cnt l = true) from fun h => c2 h.2)]
        have : ((0 : Nat) : Rat) = 0 := rfl
        grind
    · rw [if_neg c, if_neg (show ¬ (G.par l = p ∧ actv G cnt l = true) from fun h => c h.1)]
      have : ((0 : Nat) : Rat) = 0 := rfl
      grind
  rw [e, SQ_mul, ← SQ_cast]
  show _ * ((nn G cnt p : Nat) : Rat) = _
  by_cases c3 : G.surv p = false
  · rw [if_pos c3]
    by_cases c4 : 0 < nn G cnt p
    · rw [if_pos ⟨c3, c4⟩]
      have : ((nn G cnt p : Nat) : Rat) ≠ 0 := by
        have : (0 : Rat) < (nn G cnt p : Nat) := by exact_mod_cast c4
        grind
      grind
    · have e0 : nn G cnt p = 0 := by omega
      rw [if_neg (fun h => c4 h.2), e0]
      have : ((0 : Nat) : Rat) = 0 := rfl
      grind
  · rw [if_neg c3, if_neg (fun h : _ ∧ _ => c3 h.1)]
    grind
/-- what crosses a day -/
def crs (G : Gr) (cnt : Nat → Bool) (root : Nat → Rat) (t : Nat) : Rat := SQ G.P (fun q => if t ≤ G.b q then root q else 0) + SQ G.nl (fun l => if G.b (G.par l) < t ∧ t ≤ G.b (G.chi l) then fl G cnt root l else 0)
theorem byP {G : Gr} (f : Nat → Rat) (w : Nat → Nat) (t : Nat) (hw : ∀ l, l < G.nl → w l < G.P) : SQ G.nl (fun l => if G.b (w l) = t then f l else 0) = SQ G.P (fun q => if G.b q = t then SQ G.nl (fun l => if w l = q then f l else 0) else 0) := by
  have e : SQ G.P (fun q => if G.b q = t then SQ G.nl (fun l => if w l = q then f l else 0) else 0) = SQ G.P (fun q => SQ G.nl (fun l => if w l = q then (if G.b q = t then f l else 0) else 0)) := by
    refine SQ_congr fun q hq => ?_
    by_cases c : G.b q = t
    · rw [if_pos c]
      refine SQ_congr fun l hl => ?_
      rw [if_pos c]
    · rw [if_neg c]
      refine ((SQ_congr fun l hl => ?_).trans (SQ_zero G.nl)).symm
      rw [if_neg c]
      split <;> rfl
  rw [e, SQ_swap]
  refine SQ_congr fun l hl => ?_
  rw [SQ_one G.P (w l) (fun q => if G.b q = t then f l else 0), if_pos (hw l hl)]
theorem crs_step {G : Gr} {cnt : Nat → Bool} {root : Nat → Rat} (hG : G.ok) (hr : ∀ q, q < G.P → 0 ≤ root q) (t : Nat) : crs G cnt root (t + 1) ≤ crs G cnt root t := by
  unfold crs
  have e1 : SQ G.P (fun q => if t + 1 ≤ G.b q then root q else 0) = SQ G.P (fun q => if t ≤ G.b q then root q else 0) - SQ G.P (fun q => if G.b q = t then root q else 0) := by
    rw [← SQ_sub]
    refine SQ_congr fun q hq => ?_
    by_cases c : G.b q = t
    · rw [if_neg (by omega), if_pos (by omega), if_pos c]; grind
    · by_cases c2 : t ≤ G.b q
      · rw [if_pos (by omega), if_pos c2, if_neg c]; grind
      · rw [if_neg (by omega), if_neg c2, if_neg c]; grind
  have e2 : SQ G.nl (fun l => if G.b (G.par l) < t + 1 ∧ t + 1 ≤ G.b (G.chi l) then fl G cnt root l else 0) = SQ G.nl (fun l => if G.b (G.par l) < t ∧ t ≤ G.b (G.chi l) then fl G cnt root l else 0) + SQ G.nl (fun l => if G.b (G.par l) = t then fl G cnt root l else 0) - SQ G.nl (fun l => if G.b (G.chi l) = t then fl G cnt root l else 0) := by
    rw [← SQ_add, ← SQ_sub]
    refine SQ_congr fun l hl => ?_
    have := hG.lb l hl
    by_cases c : G.b (G.par l) = t
    · rw [if_pos (by omega), if_neg (by omega), if_pos c, if_neg (by omega)]; grind
    · by_cases c2 : G.b (G.chi l) = t
      · rw [if_neg (by omega), if_pos (by omega), if_neg c, if_pos c2]; grind
      · by_cases c3 : G.b (G.par l) < t ∧ t ≤ G.b (G.chi l)
        · rw [if_pos (by omega), if_pos c3, if_neg c, if_neg c2]; grind
        · rw [if_neg (by omega), if_neg c3, if_neg c, if_neg c2]; grind
  have e3 := byP (G := G) (fl G cnt root) G.par t hG.lp
  have e4 := byP (G := G) (fl G cnt root) G.chi t hG.lc
  have e5 : SQ G.P (fun q => if G.b q = t then SQ G.nl (fun l => if G.par l = q then fl G cnt root l else 0) else 0) ≤ SQ G.P (fun q => if G.b q = t then root q else 0) + SQ G.P (fun q => if G.b q = t then SQ G.nl (fun l => if G.chi l = q then fl G cnt root l else 0) else 0) := by
    rw [← SQ_add]
    refine SQ_le fun q hq => ?_
    by_cases c : G.b q = t
    · rw [if_pos c, if_pos c, if_pos c, ← Fl_eq hG, out_eq]
      split
      · exact Rat.le_refl
      · exact Fl_nonneg hG hr q hq
    · rw [if_neg c, if_neg c, if_neg c]; grind
  rw [e1, e2, e3, e4]
  grind
theorem Fl_le {G : Gr} {cnt : Nat → Bool} {root : Nat → Rat} (hG : G.ok) (hr : ∀ q, q < G.P → 0 ≤ root q) (q : Nat) (hq : q < G.P) : Fl G cnt root q ≤ SQ G.P root := by
  have h1 : ∀ t, crs G cnt root t ≤ crs G cnt root 0 := by
    intro t
    induction t with
    | zero => exact Rat.le_refl
    | succ t ih => exact Rat.le_trans (crs_step hG hr t) ih
  have h0 : crs G cnt root 0 = SQ G.P root := by
    unfold crs
    have : SQ G.nl (fun l => if G.b (G.par l) < 0 ∧ 0 ≤ G.b (G.chi l) then fl G cnt root l else 0) = 0 := by
      refine (SQ_congr fun l hl => ?_).trans (SQ_zero G.nl)
      exact if_neg (by omega)
    rw [this]
    have : SQ G.P (fun q => if 0 ≤ G.b q then root q else 0) = SQ G.P root := SQ_congr fun l hl => if_pos (Nat.zero_le _)
    rw [this]; grind
  rw [← h0]
  refine Rat.le_trans ?_ (h1 (G.b q))
  rw [Fl_eq hG]
  unfold crs
  have a1 : root q ≤ SQ G.P (fun r => if G.b q ≤ G.b r then root r else 0) := by
    have := SQ_term (n := G.P) (k := q) (f := fun r => if G.b q ≤ G.b r then root r else 0) (fun i hi => by
      split
      · exact hr i hi
      · exact Rat.le_refl) hq
    rwa [if_pos (Nat.le_refl _)] at this
  have a2 : SQ G.nl (fun l => if G.chi l = q then fl G cnt root l else 0) ≤ SQ G.nl (fun l => if G.b (G.par l) < G.b q ∧ G.b q ≤ G.b (G.chi l) then fl G cnt root l else 0) := by
    refine SQ_le fun l hl => ?_
    by_cases c : G.chi l = q
    · have := hG.lb l hl
      rw [if_pos c, if_pos (by rw [← c]; omega)]; exact Rat.le_refl
    · rw [if_neg c]
      split
      · exact fl_nonneg hG hr l hl
      · exact Rat.le_refl
  grind
/-! denominators -/
def isZ (r : Rat) : Prop := ∃ z : Int, r = (z : Rat)
theorem isZ_add {a b : Rat} (ha : isZ a) (hb : isZ b) : isZ (a + b) := by
  obtain ⟨x, rfl⟩ := ha
  obtain ⟨y, rfl⟩ := hb
  exact ⟨x + y, by simp⟩
theorem isZ_mul {a b : Rat} (ha : isZ a) (hb : isZ b) : isZ (a * b) := by
  obtain ⟨x, rfl⟩ := ha
  obtain ⟨y, rfl⟩ := hb
  exact ⟨x * y, by simp⟩
theorem isZ_neg {a : Rat} (ha : isZ a) : isZ (-a) := by
  obtain ⟨x, rfl⟩ := ha
  exact ⟨-x, by simp⟩
theorem isZ_nat (n : Nat) : isZ (n : Rat) := ⟨n, rfl⟩
theorem isZ_0 : isZ 0 := ⟨0, rfl⟩
theorem isZ_SQ {n : Nat} {f : Nat → Rat} (h : ∀ i, i < n → isZ (f i)) : isZ (SQ n f) := by
  induction n with
  | zero => exact isZ_0
  | succ n ih => exact isZ_add (ih fun i hi => h i (by omega)) (h n (by omega))
def Kt (G : Gr) (k : Nat → Nat) (t : Nat) : Nat := PN G.P (fun p => if G.b p < t then k p else 1)
theorem Kt_dvd {G : Gr} {k : Nat → Nat} {p t : Nat} (hp : p < G.P) (h : G.b p < t) : Kt G k (G.b p) * k p ∣ Kt G k t := by
  unfold Kt
  have e : k p = PN G.P (fun i => if p = i then k i else 1) := by rw [PN_one, if_pos hp]
  rw [e, ← PN_mul]
  refine PN_dvd fun i hi => ?_
  by_cases c : p = i
  · subst c
    rw [if_neg (by omega), if_pos rfl, if_pos h, Nat.one_mul]; exact Nat.dvd_refl _
  · rw [if_neg c, Nat.mul_one]
    by_cases c2 : G.b i < G.b p
    · rw [if_pos c2, if_pos (by omega)]; exact Nat.dvd_refl _
    · rw [if_neg c2]; exact Nat.one_dvd _
theorem Kt_all {G : Gr} {k : Nat → Nat} (t : Nat) : Kt G k t ∣ PN G.P k := by
  unfold Kt
  refine PN_dvd fun i hi => ?_
  split
  · exact Nat.dvd_refl _
  · exact Nat.one_dvd _
theorem Fl_den {G : Gr} {cnt : Nat → Bool} {root : Nat → Rat} {k : Nat → Nat} {h : Nat} (hG : G.ok) (hh : ∀ q, q < G.P → isZ (h * root q)) (hk : ∀ p, p < G.P → G.surv p = false → Fl G cnt root p ≠ 0 → 0 < nn G cnt p → nn G cnt p ∣ k p) :
    ∀ q, q < G.P → isZ ((h * Kt G k (G.b q) : Nat) * Fl G cnt root q) := by
  have key : ∀ n q, G.b q < n → q < G.P → isZ ((h * Kt G k (G.b q) : Nat) * Fl G cnt root q) := by
    intro n
    induction n with
    | zero => intro q h; omega
    | succ n ih =>
      intro q hq hP
      rw [Fl_eq hG, Rat.mul_add, ← SQ_mul]
      refine isZ_add ?_ (isZ_SQ fun l hl => ?_)
      · rw [Rat.natCast_mul]
        have : (h : Rat) * (Kt G k (G.b q) : Nat) * root q = (Kt G k (G.b q) : Nat) * (h * root q) := by grind
        rw [this]
        exact isZ_mul (isZ_nat _) (hh q hP)
      · by_cases c : G.chi l = q
        · rw [if_pos c]
          unfold fl
          split
          · next c2 =>
            have hb := hG.lb l hl
            have hlp := hG.lp l hl
            by_cases c3 : Fl G cnt root (G.par l) = 0
            · rw [c3]
              have : ((h * Kt G k (G.b q) : Nat) : Rat) * (0 / (nn G cnt (G.par l) : Nat)) = 0 := by grind
              rw [this]; exact isZ_0
            · have hn : 0 < nn G cnt (G.par l) := by
                unfold nn
                rw [SN_pos_iff]
                exact ⟨l, hl, rfl, c2.1⟩
              obtain ⟨x, hx⟩ := hk _ hlp c2.2 c3 hn
              obtain ⟨y, hy⟩ := Kt_dvd (k := k) hlp (t := G.b q) (by rw [← c]; exact hb)
              have h1 := ih (G.par l) (by rw [← c] at hq; omega) hlp
              rw [hy, hx]
              have hn0 : ((nn G cnt (G.par l) : Nat) : Rat) ≠ 0 := by
                have : (0 : Rat) < (nn G cnt (G.par l) : Nat) := by exact_mod_cast hn
                grind
              have : ((h * (Kt G k (G.b (G.par l)) * (nn G cnt (G.par l) * x) * y) : Nat) : Rat) * (Fl G cnt root (G.par l) / (nn G cnt (G.par l) : Nat)) = ((x * y : Nat) : Rat) * (((h * Kt G k (G.b (G.par l)) : Nat) : Rat) * Fl G cnt root (G.par l)) := by
                simp only [Rat.natCast_mul]
                grind
              rw [this]
              exact isZ_mul (isZ_nat _) h1
          · have : ((h * Kt G k (G.b q) : Nat) : Rat) * 0 = 0 := by grind
            rw [this]; exact isZ_0
        · rw [if_neg c]
          have : ((h * Kt G k (G.b q) : Nat) : Rat) * 0 = 0 := by grind
          rw [this]; exact isZ_0
  intro q hP
  exact key _ q (Nat.lt_succ_self _) hP
theorem isZ_dvd {a c : Nat} {r : Rat} (h : isZ (a * r)) (hd : a ∣ c) : isZ (c * r) := by
  obtain ⟨x, rfl⟩ := hd
  have : ((a * x : Nat) : Rat) * r = (x : Rat) * (a * r) := by
    rw [Rat.natCast_mul]; grind
  rw [this]
  exact isZ_mul (isZ_nat _) h
theorem Fl_denK {G : Gr} {cnt : Nat → Bool} {root : Nat → Rat} {k : Nat → Nat} {h : Nat} (hG : G.ok) (hh : ∀ q, q < G.P → isZ (h * root q)) (hk : ∀ p, p < G.P → G.surv p = false → Fl G cnt root p ≠ 0 → 0 < nn G cnt p → nn G cnt p ∣ k p) (q : Nat) (hq : q < G.P) : isZ ((h * PN G.P k : Nat) * Fl G cnt root q) :=
  isZ_dvd (Fl_den hG hh hk q hq) (Nat.mul_dvd_mul_left _ (Kt_all _))
end
