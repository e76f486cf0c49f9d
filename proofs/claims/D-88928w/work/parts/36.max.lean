section
variable {X : Fam}
theorem PQ_congr {n : Nat} {f g : Nat → Rat} (h : ∀ i, i < n → f i = g i) : PQ n f = PQ n g := by
  induction n with
  | zero => rfl
  | succ n ih => simp only [PQ]; rw [ih fun i hi => h i (by omega), h n (by omega)]
theorem PQ_mul (n : Nat) (f g : Nat → Rat) : PQ n (fun i => f i * g i) = PQ n f * PQ n g := by
  induction n with
  | zero => simp only [PQ]; grind
  | succ n ih => simp only [PQ, ih]; grind
theorem PQ_cast (n : Nat) (f : Nat → Nat) : ((PN n f : Nat) : Rat) = PQ n (fun i => (f i : Rat)) := by
  induction n with
  | zero => rfl
  | succ n ih => simp only [PQ, PN, Rat.natCast_mul, ih]
theorem PQ_ge1 {n : Nat} {f : Nat → Rat} (h : ∀ i, i < n → 1 ≤ f i) : 1 ≤ PQ n f := by
  induction n with
  | zero => exact Rat.le_refl
  | succ n ih =>
    have h1 := ih fun i hi => h i (by omega)
    have h2 := h n (by omega)
    simp only [PQ]
    have := Rat.mul_le_mul_of_nonneg_right h1 (c := f n) (by grind)
    grind
/-- a sum is at most a product -/
theorem PQ_sum {n : Nat} {t : Nat → Rat} (h : ∀ i, i < n → 0 ≤ t i) : 1 + SQ n t ≤ PQ n (fun i => 1 + t i) := by
  induction n with
  | zero => simp only [PQ, SQ]; grind
  | succ n ih =>
    have h1 := ih fun i hi => h i (by omega)
    have h2 := h n (by omega)
    have h3 : 1 ≤ PQ n (fun i => 1 + t i) := PQ_ge1 fun i hi => by have := h i (by omega); grind
    simp only [PQ, SQ]
    have h4 := Rat.mul_le_mul_of_nonneg_right h3 (c := t n) h2
    grind
theorem knapG {n : Nat} {g : Nat → Rat} {e : Nat → Nat} {B : List Nat} (h0 : 1 ≤ B.getD 0 0) (hg : ∀ i, i < n → 0 ≤ g i) (h : ∀ i, i < n → ∀ x, x + e i < B.length → g i * (B.getD x 0 : Nat) ≤ (B.getD (x + e i) 0 : Nat)) (hl : SN n e < B.length) : PQ n g ≤ (B.getD (SN n e) 0 : Nat) := by
  induction n with
  | zero =>
    simp only [PQ, SN]
    exact_mod_cast h0
  | succ n ih =>
    simp only [PQ, SN] at *
    have h1 := ih (fun i hi => hg i (by omega)) (fun i hi => h i (by omega)) (by omega)
    have h2 := h n (by omega) (SN n e) hl
    have h3 := Rat.mul_le_mul_of_nonneg_right h1 (hg n (by omega))
    grind
theorem okE1_use {R : Nat} {B : List Nat} {N c w : Nat} (h : okE1 R B N c w = true) {x : Nat} (hx : x + w < B.length) : lc c N * (mx1 c * (2 + R) + (N - mx1 c)) * B.getD x 0 ≤ B.getD (x + w) 0 * (mx1 c * (2 + R)) := by
  unfold okE1 at h
  rw [List.all_eq_true] at h
  have := h x (List.mem_range.mpr (by omega))
  rw [if_pos hx] at this
  exact of_decide_eq_true this
theorem okB_use {R : Nat} {B : List Nat} (h : okB R B = true) {N c : Nat} (hN : N < 24) (hc : c ≤ N) : okE1 R B N c (2 * N - c) = true ∧ (c = 0 → N ≠ 0 → okE1 R B N c (2 * N - 2) = true) := by
  unfold okB at h
  rw [List.all_eq_true] at h
  have h1 := h N (List.mem_range.mpr hN)
  rw [List.all_eq_true] at h1
  have h2 := h1 c (List.mem_range.mpr (by omega))
  rw [Bool.and_eq_true] at h2
  refine ⟨h2.1, fun e1 e2 => ?_⟩
  have h3 := h2.2
  rwa [if_pos ⟨e1, e2⟩] at h3
/-- how much more than once it may be counted -/
def tq (N c : Nat) : Rat := if N = 0 then 0 else (N : Rat) / (mx1 c : Nat) - 1
def gq (R N c : Nat) : Rat := (lc c N : Nat) * (1 + tq N c / ((2 + R : Nat) : Rat))
theorem mx1_pos (c : Nat) : 0 < mx1 c := by unfold mx1; split <;> omega
theorem mx1_le {c N : Nat} (h : c ≤ N) (h0 : N ≠ 0) : mx1 c ≤ N := by unfold mx1; split <;> omega
theorem rat_pos_ne {n : Nat} (h : 0 < n) : ((n : Nat) : Rat) ≠ 0 ∧ (0 : Rat) < (n : Nat) := by
  have : (0 : Rat) < (n : Nat) := by exact_mod_cast h
  exact ⟨by grind, this⟩
theorem tq_nonneg {N c : Nat} (h : c ≤ N) : 0 ≤ tq N c := by
  unfold tq
  split
  · exact Rat.le_refl
  · next h0 =>
    obtain ⟨h1, h2⟩ := rat_pos_ne (mx1_pos c)
    have h3 : ((mx1 c : Nat) : Rat) ≤ (N : Nat) := by exact_mod_cast mx1_le h h0
    have h4 := Rat.mul_le_mul_of_nonneg_right h3 (c := ((mx1 c : Nat) : Rat)⁻¹) (Rat.le_of_lt (Rat.inv_pos.mpr h2))
    rw [Rat.mul_inv_cancel _ h1] at h4
    rw [Rat.div_def]
    grind
theorem gq_nonneg {R N c : Nat} (h : c ≤ N) : 0 ≤ gq R N c := by
  unfold gq
  refine Rat.mul_nonneg (by exact_mod_cast Nat.zero_le _) ?_
  have := rdiv_nonneg (2 + R) (tq_nonneg h)
  grind
theorem gq_step {R N c x y : Nat} (hc : c ≤ N) (h : lc c N * (mx1 c * (2 + R) + (N - mx1 c)) * x ≤ y * (mx1 c * (2 + R))) : gq R N c * (x : Nat) ≤ (y : Nat) := by
  obtain ⟨h1, h2⟩ := rat_pos_ne (mx1_pos c)
  obtain ⟨h3, h4⟩ := rat_pos_ne (show 0 < 2 + R by omega)
  have h5 : 0 < ((mx1 c : Nat) : Rat) * ((2 + R : Nat) : Rat) := Rat.mul_pos h2 h4
  have e : gq R N c * (x : Nat) * (((mx1 c : Nat) : Rat) * ((2 + R : Nat) : Rat)) = ((lc c N * (mx1 c * (2 + R) + (N - mx1 c)) * x : Nat) : Rat) := by
    unfold gq tq
    by_cases h0 : N = 0
    · subst h0
      have hm : 0 - mx1 c = 0 := by omega
      rw [if_pos rfl, hm]
      simp only [Rat.natCast_mul, Rat.natCast_add]
      simp only [Rat.natCast_add] at h3
      have z : ((0 : Nat) : Rat) = 0 := rfl
      grind
    · rw [if_neg h0]
      have hm := mx1_le hc h0
      have es : ((N - mx1 c : Nat) : Rat) = (N : Nat) - (mx1 c : Nat) := by
        have : ((N - mx1 c + mx1 c : Nat) : Rat) = (N : Nat) := by rw [Nat.sub_add_cancel hm]
        rw [Rat.natCast_add] at this
        grind
      simp only [Rat.natCast_mul, Rat.natCast_add, es]
      simp only [Rat.natCast_add] at h3
      grind
  have h6 : gq R N c * (x : Nat) * (((mx1 c : Nat) : Rat) * ((2 + R : Nat) : Rat)) ≤ (y : Nat) * (((mx1 c : Nat) : Rat) * ((2 + R : Nat) : Rat)) := by
    rw [e]
    have : ((y * (mx1 c * (2 + R)) : Nat) : Rat) = (y : Nat) * (((mx1 c : Nat) : Rat) * ((2 + R : Nat) : Rat)) := by
      simp only [Rat.natCast_mul]
    rw [← this]
    exact_mod_cast h
  exact Rat.le_of_mul_le_mul_right h6 h5
theorem Fam.gstep {R : Nat} {B : List Nat} (hB : okB R B = true) (hX : X.ok) {p : Nat} (hN : X.N p < 24) (x : Nat) (hx : x + X.e p < B.length) : gq R (X.N p) (X.c p) * (B.getD x 0 : Nat) ≤ (B.getD (x + X.e p) 0 : Nat) := by
  have hc := Fam.c_N hX p
  obtain ⟨h1, h2⟩ := okB_use hB hN hc
  refine gq_step hc ?_
  unfold Fam.e at hx ⊢
  by_cases c : X.soft p
  · rw [if_pos c] at hx ⊢
    exact okE1_use (h2 c.2.2.2 (by have := c.2.2.1; omega)) hx
  · rw [if_neg c] at hx ⊢
    exact okE1_use h1 hx
/-- the greatest share of each -/
def Fam.M (X : Fam) (q : Nat) : Rat := mxQ (fun w => X.F w q) X.W
def Fam.Rt (X : Fam) (q : Nat) : Rat := mxQ (fun w => X.root w q) X.W
theorem Fam.M_le (hX : X.ok) {q : Nat} (hq : q < X.G.P) : X.M q ≤ 1 := mxQ_le (by decide) fun w hw => Rat.le_trans (Fl_le hX.g (hX.r0 w hw) q hq) (hX.r1 w hw)
theorem Fam.M_nonneg (q : Nat) : 0 ≤ X.M q := mxQ_nonneg
theorem Fam.f_le (hX : X.ok) {w l : Nat} (hw : w < X.W) (hl : l < X.G.nl) : X.f w l ≤ if X.on l = true then X.M (X.G.par l) * ((mx1 (X.c (X.G.par l)) : Nat) : Rat)⁻¹ else 0 := by
  obtain ⟨hm, hm2⟩ := rat_pos_ne (mx1_pos (X.c (X.G.par l)))
  have hi := Rat.inv_pos.mpr hm2
  by_cases c : X.f w l = 0
  · rw [c]
    split
    · exact Rat.mul_nonneg (Fam.M_nonneg _) (Rat.le_of_lt hi)
    · exact Rat.le_refl
  · rw [if_pos (Fam.on_iff.mpr ⟨w, hw, c⟩)]
    obtain ⟨a1, a2, a3⟩ := Fam.f_ne c
    have e := Fam.n_eq hX hw a2 a3
    have hF : X.F w (X.G.par l) ≤ X.M (X.G.par l) := mxQ_ge (f := fun w => X.F w (X.G.par l)) hw
    have h0 : 0 ≤ X.F w (X.G.par l) := Fl_nonneg hX.g (hX.r0 w hw) _ (hX.g.lp l hl)
    have hn : 0 < nn X.G (X.cnt w) (X.G.par l) := by
      unfold nn
      rw [SN_pos_iff]
      exact ⟨l, hl, rfl, a1⟩
    have hc := Fam.c_le (X := X) (p := X.G.par l) hw
    have hmn : mx1 (X.c (X.G.par l)) ≤ nn X.G (X.cnt w) (X.G.par l) := by
      rw [e] at hn ⊢
      unfold mx1
      split <;> omega
    unfold Fam.f fl
    rw [if_pos ⟨a1, a2⟩]
    obtain ⟨hn1, hn2⟩ := rat_pos_ne hn
    have hin := Rat.inv_pos.mpr hn2
    have hmnq : ((mx1 (X.c (X.G.par l)) : Nat) : Rat) ≤ (nn X.G (X.cnt w) (X.G.par l) : Nat) := by exact_mod_cast hmn
    -- the inverse turns it
    have hinv : ((nn X.G (X.cnt w) (X.G.par l) : Nat) : Rat)⁻¹ ≤ ((mx1 (X.c (X.G.par l)) : Nat) : Rat)⁻¹ := by
      have h1 := Rat.mul_le_mul_of_nonneg_right hmnq (c := ((nn X.G (X.cnt w) (X.G.par l) : Nat) : Rat)⁻¹ * ((mx1 (X.c (X.G.par l)) : Nat) : Rat)⁻¹) (Rat.le_of_lt (Rat.mul_pos hin hi))
      have e1 := Rat.mul_inv_cancel _ hm
      have e2 := Rat.mul_inv_cancel _ hn1
      rw [Rat.mul_comm ((nn X.G (X.cnt w) (X.G.par l) : Nat) : Rat)⁻¹, ← Rat.mul_assoc, e1, Rat.one_mul, Rat.mul_comm (((mx1 (X.c (X.G.par l)) : Nat) : Rat)⁻¹), ← Rat.mul_assoc, e2, Rat.one_mul] at h1
      exact h1
    rw [Rat.div_def]
    have h1 := Rat.mul_le_mul_of_nonneg_right hF (Rat.le_of_lt hin)
    have h2 := Rat.mul_le_mul_of_nonneg_left hinv (Fam.M_nonneg (X := X) (X.G.par l))
    unfold Fam.F at h1
    exact Rat.le_trans h1 h2
theorem Fam.M_step (hX : X.ok) (q : Nat) : X.M q ≤ X.Rt q + SQ X.G.nl (fun l => if X.G.chi l = q then (if X.on l = true then X.M (X.G.par l) * ((mx1 (X.c (X.G.par l)) : Nat) : Rat)⁻¹ else 0) else 0) := by
  have hs : ∀ l, l < X.G.nl → 0 ≤ (if X.G.chi l = q then (if X.on l = true then X.M (X.G.par l) * ((mx1 (X.c (X.G.par l)) : Nat) : Rat)⁻¹ else 0) else (0 : Rat)) := fun l hl => by
    split
    · split
      · exact Rat.mul_nonneg (Fam.M_nonneg _) (Rat.le_of_lt (Rat.inv_pos.mpr (rat_pos_ne (mx1_pos _)).2))
      · exact Rat.le_refl
    · exact Rat.le_refl
  have h0 := SQ_nonneg hs
  have h1 : 0 ≤ X.Rt q := mxQ_nonneg
  refine mxQ_le (by grind) fun w hw => ?_
  have e : X.F w q = X.root w q + SQ X.G.nl (fun l => if X.G.chi l = q then X.f w l else 0) := Fl_eq hX.g q
  have h2 : X.root w q ≤ X.Rt q := mxQ_ge (f := fun w => X.root w q) hw
  have h3 : SQ X.G.nl (fun l => if X.G.chi l = q then X.f w l else 0) ≤ SQ X.G.nl (fun l => if X.G.chi l = q then (if X.on l = true then X.M (X.G.par l) * ((mx1 (X.c (X.G.par l)) : Nat) : Rat)⁻¹ else 0) else 0) := SQ_le fun l hl => by
    split
    · exact Fam.f_le hX hw hl
    · exact Rat.le_refl
  rw [e]
  grind
theorem Fam.N_surv {p : Nat} (h : X.G.surv p = true) : X.N p = 0 := by
  unfold Fam.N
  refine (SN_congr fun l hl => if_neg fun hc => ?_).trans (SN_zero X.G.nl)
  obtain ⟨w, hw, hf⟩ := Fam.on_iff.mp hc.2
  have := (Fam.f_ne hf).2.1
  rw [hc.1, h] at this
  exact absurd this (by decide)
/-- all greatest shares together -/
theorem Fam.T_le (hX : X.ok) : SQ X.G.P (fun q => if X.G.surv q = true then X.M q else 0) ≤ SQ X.G.P X.Rt + SQ X.G.P (fun p => tq (X.N p) (X.c p)) := by
  have h1 : SQ X.G.P X.M ≤ SQ X.G.P (fun q => X.Rt q + SQ X.G.nl (fun l => if X.G.chi l = q then (if X.on l = true then X.M (X.G.par l) * ((mx1 (X.c (X.G.par l)) : Nat) : Rat)⁻¹ else 0) else 0)) := SQ_le fun q _ => Fam.M_step hX q
  rw [SQ_add, SQ_swap] at h1
  have h2 : SQ X.G.nl (fun l => SQ X.G.P (fun q => if X.G.chi l = q then (if X.on l = true then X.M (X.G.par l) * ((mx1 (X.c (X.G.par l)) : Nat) : Rat)⁻¹ else 0) else 0)) = SQ X.G.nl (fun l => SQ X.G.P (fun p => if X.G.par l = p then (if X.on l = true then X.M p * ((mx1 (X.c p) : Nat) : Rat)⁻¹ else 0) else 0)) := by
    refine SQ_congr fun l hl => ?_
    rw [SQ_one X.G.P (X.G.chi l) (fun _ => if X.on l = true then X.M (X.G.par l) * ((mx1 (X.c (X.G.par l)) : Nat) : Rat)⁻¹ else 0), if_pos (hX.g.lc l hl), SQ_one X.G.P (X.G.par l) (fun p => if X.on l = true then X.M p * ((mx1 (X.c p) : Nat) : Rat)⁻¹ else 0), if_pos (hX.g.lp l hl)]
  rw [h2, ← SQ_swap] at h1
  have h3 : SQ X.G.P (fun p => SQ X.G.nl (fun l => if X.G.par l = p then (if X.on l = true then X.M p * ((mx1 (X.c p) : Nat) : Rat)⁻¹ else 0) else 0)) = SQ X.G.P (fun p => X.M p * ((mx1 (X.c p) : Nat) : Rat)⁻¹ * (X.N p : Nat)) := by
    refine SQ_congr fun p hp => ?_
    unfold Fam.N
    rw [SQ_cast, ← SQ_mul]
    refine SQ_congr fun l hl => ?_
    have z : ((0 : Nat) : Rat) = 0 := rfl
    have o : ((1 : Nat) : Rat) = 1 := rfl
    by_cases c : X.G.par l = p
    · by_cases c2 : X.on l = true
      · rw [if_pos c, if_pos c2, if_pos ⟨c, c2⟩]; grind
      · rw [if_pos c, if_neg c2, if_neg (fun h => c2 h.2)]; grind
    · rw [if_neg c, if_neg (fun h => c h.1)]; grind
  rw [h3] at h1
  have h4 : SQ X.G.P (fun q => if X.G.surv q = true then X.M q else 0) = SQ X.G.P X.M - SQ X.G.P (fun q => if X.G.surv q = true then 0 else X.M q) := by
    rw [← SQ_sub]
    refine SQ_congr fun q hq => ?_
    split <;> grind
  have h5 : SQ X.G.P (fun p => X.M p * ((mx1 (X.c p) : Nat) : Rat)⁻¹ * (X.N p : Nat)) ≤ SQ X.G.P (fun q => (if X.G.surv q = true then 0 else X.M q) + tq (X.N q) (X.c q)) := by
    refine SQ_le fun p hp => ?_
    have hM0 := Fam.M_nonneg (X := X) p
    have hM1 := Fam.M_le hX hp
    have ht := tq_nonneg (Fam.c_N hX p)
    by_cases c : X.N p = 0
    · rw [c] at ht ⊢
      have z : ((0 : Nat) : Rat) = 0 := rfl
      rw [z]
      split <;> grind
    · have cs : ¬ X.G.surv p = true := fun h => c (Fam.N_surv h)
      rw [if_neg cs]
      have e : X.M p * ((mx1 (X.c p) : Nat) : Rat)⁻¹ * (X.N p : Nat) = X.M p + X.M p * tq (X.N p) (X.c p) := by
        unfold tq
        rw [if_neg c, Rat.div_def]
        grind
      rw [e]
      have := Rat.mul_le_mul_of_nonneg_right hM1 ht
      grind
  rw [SQ_add] at h5
  rw [h4]
  grind
def Fam.L (X : Fam) : Nat := PN X.G.P (fun p => lc (X.c p) (X.N p))
theorem Fam.den (hX : X.ok) {H : Nat} (hH : ∀ w, w < X.W → ∀ q, q < X.G.P → isZ (H * X.root w q)) {w q : Nat} (hw : w < X.W) (hq : q < X.G.P) : isZ ((H * X.L : Nat) * X.F w q) := by
  refine Fl_denK hX.g (hH w hw) (fun p hp hs hF hn => ?_) q hq
  rw [Fam.n_eq hX hw hs hF] at hn ⊢
  exact lc_dvd (Fam.c_le hw) hn (Fam.n_le w p)
theorem Fam.LT (hX : X.ok) {R : Nat} {x : Rat} (hR : x + SQ X.G.P X.Rt ≤ (R : Nat)) : (X.L : Nat) * (1 + (x + SQ X.G.P (fun q => if X.G.surv q = true then X.M q else 0)) * (1/2)) ≤ (1 + (R : Nat) * (1/2)) * PQ X.G.P (fun p => gq R (X.N p) (X.c p)) := by
  have h1 := Fam.T_le hX
  have e : PQ X.G.P (fun p => gq R (X.N p) (X.c p)) = (X.L : Nat) * PQ X.G.P (fun p => 1 + tq (X.N p) (X.c p) / ((2 + R : Nat) : Rat)) := by
    unfold Fam.L
    rw [PQ_cast, ← PQ_mul]
    rfl
  have h2 := PQ_sum (n := X.G.P) (t := fun p => tq (X.N p) (X.c p) / ((2 + R : Nat) : Rat)) (fun i hi => rdiv_nonneg _ (tq_nonneg (Fam.c_N hX i)))
  have h3 : SQ X.G.P (fun p => tq (X.N p) (X.c p) / ((2 + R : Nat) : Rat)) = ((2 + R : Nat) : Rat)⁻¹ * SQ X.G.P (fun p => tq (X.N p) (X.c p)) := by
    rw [← SQ_mul]
    refine SQ_congr fun p hp => ?_
    rw [Rat.div_def]; grind
  obtain ⟨hr, hr2⟩ := rat_pos_ne (show 0 < 2 + R by omega)
  have hL : (0 : Rat) ≤ (X.L : Nat) := by exact_mod_cast Nat.zero_le _
  rw [e]
  have h4 : 1 + (x + SQ X.G.P (fun q => if X.G.surv q = true then X.M q else 0)) * (1/2) ≤ (1 + (R : Nat) * (1/2)) * PQ X.G.P (fun p => 1 + tq (X.N p) (X.c p) / ((2 + R : Nat) : Rat)) := by
    rw [h3] at h2
    have hR2 : ((2 + R : Nat) : Rat) = 2 + (R : Nat) := by rw [Rat.natCast_add]; rfl
    have h5 : 0 ≤ 1 + ((R : Nat) : Rat) * (1/2) := by
      have : (0 : Rat) ≤ (R : Nat) := by exact_mod_cast Nat.zero_le _
      grind
    have h6 := Rat.mul_le_mul_of_nonneg_left h2 h5
    have h7 : (1 + ((R : Nat) : Rat) * (1/2)) * (1 + ((2 + R : Nat) : Rat)⁻¹ * SQ X.G.P (fun p => tq (X.N p) (X.c p))) = 1 + ((R : Nat) : Rat) * (1/2) + SQ X.G.P (fun p => tq (X.N p) (X.c p)) * (1/2) := by
      rw [hR2] at hr ⊢
      grind
    grind
  have h5 := Rat.mul_le_mul_of_nonneg_left h4 hL
  grind
end
