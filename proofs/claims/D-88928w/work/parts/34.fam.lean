section
/-! A FAMILY OF WAYS: denominators and greatest shares -/
theorem inn_mono {G : Gr} {c1 c2 : Nat → Bool} (hG : G.ok) (h : ∀ l, c1 l = true → c2 l = true) : ∀ p, p < G.P → inn G c1 p = true → inn G c2 p = true := by
  have key : ∀ n p, 100001 - G.b p < n → p < G.P → inn G c1 p = true → inn G c2 p = true := by
    intro n
    induction n with
    | zero => intro p h; omega
    | succ n ih =>
      intro p hn hP hi
      rw [inn_eq hG] at hi ⊢
      simp only [Bool.and_eq_true, Bool.or_eq_true] at hi ⊢
      refine ⟨hi.1, ?_⟩
      rcases hi.2 with c | c
      · exact Or.inl c
      · obtain ⟨l, hl, e, c1l, il⟩ := tks_iff.mp c
        have := hG.lb l hl
        have := hG.top _ (hG.lc l hl)
        exact Or.inr (tks_iff.mpr ⟨l, hl, e, h l c1l, ih _ (by rw [← e] at hn; omega) (hG.lc l hl) il⟩)
  intro p hP
  exact key _ p (Nat.lt_succ_self _) hP
def mnN (f : Nat → Nat) : Nat → Nat
  | 0 => f 0
  | n + 1 => min (mnN f n) (f n)
theorem mnN_le {f : Nat → Nat} {n w : Nat} (h : w < n) : mnN f n ≤ f w := by
  induction n with
  | zero => omega
  | succ n ih =>
    simp only [mnN]
    by_cases c : w = n
    · subst c; exact Nat.min_le_right _ _
    · exact Nat.le_trans (Nat.min_le_left _ _) (ih (by omega))
theorem mnN_at {f : Nat → Nat} {n : Nat} (h : 0 < n) : ∃ w, w < n ∧ f w = mnN f n := by
  induction n with
  | zero => omega
  | succ n ih =>
    simp only [mnN]
    by_cases c : mnN f n ≤ f n
    · rw [Nat.min_eq_left c]
      rcases Nat.eq_zero_or_pos n with e | e
      · subst e; exact ⟨0, by omega, rfl⟩
      · obtain ⟨w, hw, e⟩ := ih e
        exact ⟨w, by omega, e⟩
    · rw [Nat.min_eq_right (by omega)]
      exact ⟨n, by omega, rfl⟩
def mxQ (f : Nat → Rat) : Nat → Rat
  | 0 => 0
  | n + 1 => if mxQ f n ≤ f n then f n else mxQ f n
theorem mxQ_ge {f : Nat → Rat} {n w : Nat} (h : w < n) : f w ≤ mxQ f n := by
  induction n with
  | zero => omega
  | succ n ih =>
    simp only [mxQ]
    by_cases c : w = n
    · subst c
      split
      · exact Rat.le_refl
      · grind
    · have := ih (by omega)
      split <;> grind
theorem mxQ_le {f : Nat → Rat} {n : Nat} {x : Rat} (h0 : 0 ≤ x) (h : ∀ w, w < n → f w ≤ x) : mxQ f n ≤ x := by
  induction n with
  | zero => exact h0
  | succ n ih =>
    simp only [mxQ]
    split
    · exact h n (by omega)
    · exact ih fun w hw => h w (by omega)
theorem mxQ_nonneg {f : Nat → Rat} {n : Nat} : 0 ≤ mxQ f n := by
  induction n with
  | zero => exact Rat.le_refl
  | succ n ih => simp only [mxQ]; split <;> grind
/-- the family: W ways, which lines count in each, where it starts in each -/
def Fam : Type := Gr × Nat × (Nat → Nat → Bool) × (Nat → Nat → Rat)
def Fam.G (X : Fam) : Gr := X.1
def Fam.W (X : Fam) : Nat := X.2.1
def Fam.cnt (X : Fam) : Nat → Nat → Bool := X.2.2.1
def Fam.root (X : Fam) : Nat → Nat → Rat := X.2.2.2
def Fam.F (X : Fam) (w q : Nat) : Rat := Fl X.G (X.cnt w) (X.root w) q
def Fam.f (X : Fam) (w l : Nat) : Rat := fl X.G (X.cnt w) (X.root w) l
/-- a line that something comes down in some way -/
def Fam.on (X : Fam) (l : Nat) : Bool := anyN X.W (fun w => decide (X.f w l ≠ 0))
def Fam.cn (X : Fam) (w l : Nat) : Bool := X.cnt w l && X.on l
def Fam.n (X : Fam) (w p : Nat) : Nat := nn X.G (X.cn w) p
def Fam.N (X : Fam) (p : Nat) : Nat := SN X.G.nl (fun l => if X.G.par l = p ∧ X.on l = true then 1 else 0)
def Fam.c (X : Fam) (p : Nat) : Nat := mnN (fun w => X.n w p) X.W
abbrev Fam.soft (X : Fam) (p : Nat) : Prop := p ≠ X.G.d ∧ X.G.surv p = false ∧ 0 < X.N p ∧ X.c p = 0
def Fam.ok (X : Fam) : Prop := X.G.ok ∧ 0 < X.W ∧ (∀ w, w < X.W → ∀ q, q < X.G.P → 0 ≤ X.root w q) ∧ (∀ w, w < X.W → SQ X.G.P (X.root w) ≤ 1) ∧ (∀ q, q < X.G.P → SN X.G.nl (fun l => if X.G.chi l = q ∧ X.on l = true then 1 else 0) ≤ 2)
variable {X : Fam}
theorem Fam.ok.g (h : X.ok) : X.G.ok := h.1
theorem Fam.ok.w (h : X.ok) : 0 < X.W := h.2.1
theorem Fam.ok.r0 (h : X.ok) : ∀ w, w < X.W → ∀ q, q < X.G.P → 0 ≤ X.root w q := h.2.2.1
theorem Fam.ok.r1 (h : X.ok) : ∀ w, w < X.W → SQ X.G.P (X.root w) ≤ 1 := h.2.2.2.1
theorem Fam.ok.two (h : X.ok) : ∀ q, q < X.G.P → SN X.G.nl (fun l => if X.G.chi l = q ∧ X.on l = true then 1 else 0) ≤ 2 := h.2.2.2.2
theorem Fam.on_iff {l : Nat} : X.on l = true ↔ ∃ w, w < X.W ∧ X.f w l ≠ 0 := by
  unfold Fam.on
  rw [anyN_iff]
  simp
theorem Fam.f_ne {w l : Nat} (h : X.f w l ≠ 0) : actv X.G (X.cnt w) l = true ∧ X.G.surv (X.G.par l) = false ∧ X.F w (X.G.par l) ≠ 0 := by
  unfold Fam.f fl at h
  split at h
  · next c =>
    refine ⟨c.1, c.2, fun e => h ?_⟩
    unfold Fam.F at e
    rw [e]
    grind
  · exact absurd rfl h
theorem Fam.f_pos (hX : X.ok) {w l : Nat} (hw : w < X.W) (hl : l < X.G.nl) (h1 : actv X.G (X.cnt w) l = true) (h2 : X.G.surv (X.G.par l) = false) (h3 : X.F w (X.G.par l) ≠ 0) : 0 < X.f w l := by
  unfold Fam.f fl
  rw [if_pos ⟨h1, h2⟩]
  have h0 : 0 ≤ X.F w (X.G.par l) := Fl_nonneg hX.g (hX.r0 w hw) _ (hX.g.lp l hl)
  have hp : 0 < X.F w (X.G.par l) := by grind
  have hn : 0 < nn X.G (X.cnt w) (X.G.par l) := by
    unfold nn
    rw [SN_pos_iff]
    exact ⟨l, hl, rfl, h1⟩
  have hn' : (0 : Rat) < (nn X.G (X.cnt w) (X.G.par l) : Nat) := by exact_mod_cast hn
  unfold Fam.F at hp
  rw [Rat.div_def]
  exact Rat.mul_pos hp (Rat.inv_pos.mpr hn')
theorem Fam.f_on (hX : X.ok) {w l : Nat} (hw : w < X.W) (hl : l < X.G.nl) (h1 : actv X.G (X.cnt w) l = true) (h2 : X.G.surv (X.G.par l) = false) (h3 : X.F w (X.G.par l) ≠ 0) : X.on l = true ∧ X.F w (X.G.chi l) ≠ 0 := by
  have hp := Fam.f_pos hX hw hl h1 h2 h3
  refine ⟨Fam.on_iff.mpr ⟨w, hw, by grind⟩, ?_⟩
  have : X.F w (X.G.chi l) = X.root w (X.G.chi l) + SQ X.G.nl (fun k => if X.G.chi k = X.G.chi l then X.f w k else 0) := Fl_eq hX.g _
  have h0 := hX.r0 w hw _ (hX.g.lc l hl)
  have h4 : X.f w l ≤ SQ X.G.nl (fun k => if X.G.chi k = X.G.chi l then X.f w k else 0) := by
    have := SQ_term (n := X.G.nl) (k := l) (f := fun k => if X.G.chi k = X.G.chi l then X.f w k else 0) (fun k hk => by
      split
      · exact fl_nonneg hX.g (hX.r0 w hw) k hk
      · exact Rat.le_refl) hl
    rwa [if_pos rfl] at this
  grind
theorem Fam.inn_on (hX : X.ok) {w : Nat} (hw : w < X.W) : ∀ q, q < X.G.P → X.F w q ≠ 0 → inn X.G (X.cnt w) q = true → inn X.G (X.cn w) q = true := by
  have hG := hX.g
  have key : ∀ n q, 100001 - X.G.b q < n → q < X.G.P → X.F w q ≠ 0 → inn X.G (X.cnt w) q = true → inn X.G (X.cn w) q = true := by
    intro n
    induction n with
    | zero => intro p h; omega
    | succ n ih =>
      intro q hn hP hF hi
      rw [inn_eq hG] at hi ⊢
      simp only [Bool.and_eq_true, Bool.or_eq_true] at hi ⊢
      refine ⟨hi.1, ?_⟩
      by_cases cs : X.G.surv q = true
      · exact Or.inl cs
      · rcases hi.2 with c | c
        · exact absurd c cs
        · obtain ⟨l, hl, e, cl, il⟩ := tks_iff.mp c
          have hb := hG.lb l hl
          have ht := hG.top _ (hG.lc l hl)
          have hon := Fam.f_on hX hw hl (by unfold actv; rw [cl, il]; rfl) (by rw [e]; simpa using cs) (by rw [e]; exact hF)
          refine Or.inr (tks_iff.mpr ⟨l, hl, e, ?_, ih _ (by rw [← e] at hn; omega) (hG.lc l hl) hon.2 il⟩)
          unfold Fam.cn
          rw [cl, hon.1]; rfl
  intro q hP
  exact key _ q (Nat.lt_succ_self _) hP
theorem Fam.cn_le {w l : Nat} (h : X.cn w l = true) : X.cnt w l = true := by
  unfold Fam.cn at h
  simp only [Bool.and_eq_true] at h
  exact h.1
theorem Fam.act_on (hX : X.ok) {w l : Nat} (hw : w < X.W) (hl : l < X.G.nl) (h2 : X.G.surv (X.G.par l) = false) (h3 : X.F w (X.G.par l) ≠ 0) : actv X.G (X.cn w) l = actv X.G (X.cnt w) l := by
  rw [Bool.eq_iff_iff]
  constructor
  · intro h
    unfold actv at h ⊢
    simp only [Bool.and_eq_true] at h ⊢
    exact ⟨Fam.cn_le h.1, inn_mono hX.g (fun l h => Fam.cn_le h) _ (hX.g.lc l hl) h.2⟩
  · intro h
    have hon := Fam.f_on hX hw hl h h2 h3
    unfold actv at h ⊢
    simp only [Bool.and_eq_true] at h ⊢
    exact ⟨by unfold Fam.cn; rw [h.1, hon.1]; rfl, Fam.inn_on hX hw _ (hX.g.lc l hl) hon.2 h.2⟩
theorem Fam.n_eq (hX : X.ok) {w p : Nat} (hw : w < X.W) (h2 : X.G.surv p = false) (h3 : X.F w p ≠ 0) : nn X.G (X.cnt w) p = X.n w p := by
  unfold Fam.n nn
  refine SN_congr fun l hl => ?_
  by_cases c : X.G.par l = p
  · rw [Fam.act_on hX hw hl (by rw [c]; exact h2) (by rw [c]; exact h3)]
  · rw [if_neg (fun h => c h.1), if_neg (fun h => c h.1)]
theorem Fam.n_le (w p : Nat) : X.n w p ≤ X.N p := by
  unfold Fam.n Fam.N nn
  refine SN_le fun l hl => ?_
  by_cases c : X.G.par l = p ∧ actv X.G (X.cn w) l = true
  · rw [if_pos c, if_pos ?_]
    · exact Nat.le_refl _
    · have h := c.2
      unfold actv Fam.cn at h
      simp only [Bool.and_eq_true] at h
      exact ⟨c.1, h.1.2⟩
  · rw [if_neg c]; exact Nat.zero_le _
theorem Fam.c_le {w p : Nat} (hw : w < X.W) : X.c p ≤ X.n w p := mnN_le (f := fun w => X.n w p) hw
theorem Fam.c_N (hX : X.ok) (p : Nat) : X.c p ≤ X.N p := Nat.le_trans (Fam.c_le (w := 0) hX.w) (Fam.n_le 0 p)
/-- lines that vary -/
def Fam.vr (X : Fam) (l : Nat) : Bool := X.on l && anyN X.W (fun w => !actv X.G (X.cn w) l)
/-- lines that count in one way and not in another -/
def Fam.op (X : Fam) (l : Nat) : Bool := X.on l && anyN X.W (fun w => X.cnt w l) && anyN X.W (fun w => !X.cnt w l)
def Fam.V (X : Fam) (p : Nat) : Nat := SN X.G.nl (fun l => if X.G.par l = p ∧ X.vr l = true then 1 else 0)
theorem Fam.NcV (hX : X.ok) (p : Nat) : X.N p ≤ X.c p + X.V p := by
  obtain ⟨w, hw, e⟩ := mnN_at (f := fun w => X.n w p) hX.w
  have e : X.n w p = X.c p := e
  rw [← e]
  unfold Fam.N Fam.V Fam.n nn
  rw [← SN_add]
  refine SN_le fun l hl => ?_
  by_cases c : X.G.par l = p ∧ X.on l = true
  · rw [if_pos c]
    by_cases c2 : actv X.G (X.cn w) l = true
    · rw [if_pos ⟨c.1, c2⟩]; omega
    · have : X.vr l = true := by
        unfold Fam.vr
        rw [c.2, Bool.true_and, anyN_iff]
        exact ⟨w, hw, by simpa using c2⟩
      rw [if_pos (show X.G.par l = p ∧ X.vr l = true from ⟨c.1, this⟩)]; omega
  · rw [if_neg c]; exact Nat.zero_le _
theorem Fam.vr_op (hX : X.ok) {l : Nat} (hl : l < X.G.nl) (h : X.vr l = true) : X.op l = true ∨ X.soft (X.G.chi l) := by
  unfold Fam.vr at h
  simp only [Bool.and_eq_true] at h
  obtain ⟨hon, h⟩ := h
  rw [anyN_iff] at h
  obtain ⟨w2, hw2, hv⟩ := h
  obtain ⟨w1, hw1, hf⟩ := Fam.on_iff.mp hon
  obtain ⟨a1, a2, a3⟩ := Fam.f_ne hf
  have a1' := a1
  rw [← Fam.act_on hX hw1 hl a2 a3] at a1'
  have hv : ¬ actv X.G (X.cn w2) l = true := by simpa using hv
  unfold actv at hv a1' a1
  simp only [Bool.and_eq_true] at hv a1' a1
  by_cases c : X.cnt w2 l = true
  · right
    have c' : X.cn w2 l = true := by unfold Fam.cn; rw [c, hon]; rfl
    have hni : ¬ inn X.G (X.cn w2) (X.G.chi l) = true := fun h => hv ⟨c', h⟩
    have hi1 := a1'.2
    rw [inn_eq hX.g] at hni hi1
    simp only [Bool.and_eq_true, Bool.or_eq_true, bne_iff_ne, ne_eq] at hni hi1
    have hns : ¬ X.G.surv (X.G.chi l) = true := fun h => hni ⟨hi1.1, Or.inl h⟩
    have ht1 : tks X.G (X.cn w1) (X.G.chi l) = true := hi1.2.resolve_left hns
    have ht2 : ¬ tks X.G (X.cn w2) (X.G.chi l) = true := fun h => hni ⟨hi1.1, Or.inr h⟩
    rw [← nn_pos] at ht1 ht2
    refine ⟨hi1.1, by simpa using hns, Nat.lt_of_lt_of_le ht1 (Fam.n_le w1 _), ?_⟩
    have := Fam.c_le (X := X) (p := X.G.chi l) hw2
    have : X.n w2 (X.G.chi l) = nn X.G (X.cn w2) (X.G.chi l) := rfl
    omega
  · left
    unfold Fam.op
    simp only [Bool.and_eq_true]
    refine ⟨⟨hon, anyN_iff.mpr ⟨w1, hw1, a1.1⟩⟩, anyN_iff.mpr ⟨w2, hw2, by simpa using c⟩⟩
/-- the weight of a person -/
def Fam.e (X : Fam) (p : Nat) : Nat := if X.soft p then 2 * X.N p - 2 else 2 * X.N p - X.c p
def Fam.lines (X : Fam) : Nat := SN X.G.nl (fun l => if X.on l = true then 1 else 0)
def Fam.opens (X : Fam) : Nat := SN X.G.nl (fun l => if X.op l = true then 1 else 0)
theorem SN_by {n P : Nat} (w : Nat → Nat) (c : Nat → Prop) [DecidablePred c] (hw : ∀ l, l < n → w l < P) : SN P (fun p => SN n (fun l => if w l = p ∧ c l then 1 else 0)) = SN n (fun l => if c l then 1 else 0) := by
  rw [SN_swap]
  refine SN_congr fun l hl => ?_
  have e : SN P (fun p => if w l = p ∧ c l then 1 else 0) = SN P (fun p => if w l = p then (fun _ => if c l then 1 else 0) p else 0) := by
    refine SN_congr fun p hp => ?_
    by_cases c1 : w l = p
    · by_cases c2 : c l
      · rw [if_pos ⟨c1, c2⟩, if_pos c1, if_pos c2]
      · rw [if_neg (fun h => c2 h.2), if_pos c1, if_neg c2]
    · rw [if_neg (fun h => c1 h.1), if_neg c1]
  rw [e, SN_one, if_pos (hw l hl)]
theorem Fam.weights (hX : X.ok) : SN X.G.P X.e ≤ X.lines + X.opens := by
  have hN : SN X.G.P X.N = X.lines := SN_by X.G.par (fun l => X.on l = true) hX.g.lp
  have hV : SN X.G.P X.V = SN X.G.nl (fun l => if X.vr l = true then 1 else 0) := SN_by X.G.par (fun l => X.vr l = true) hX.g.lp
  -- the lines that vary
  have hS : SN X.G.nl (fun l => if X.vr l = true then 1 else 0) ≤ X.opens + SN X.G.P (fun q => if X.soft q then 2 else 0) := by
    have h1 : SN X.G.nl (fun l => if X.vr l = true then 1 else 0) ≤ SN X.G.nl (fun l => (if X.op l = true then 1 else 0) + (if X.on l = true ∧ X.soft (X.G.chi l) then 1 else 0)) := by
      refine SN_le fun l hl => ?_
      by_cases c : X.vr l = true
      · rw [if_pos c]
        rcases Fam.vr_op hX hl c with h | h
        · rw [if_pos h]; omega
        · have hon : X.on l = true := by
            unfold Fam.vr at c
            simp only [Bool.and_eq_true] at c
            exact c.1
          rw [if_pos (show X.on l = true ∧ X.soft (X.G.chi l) from ⟨hon, h⟩)]; omega
      · rw [if_neg c]; exact Nat.zero_le _
    rw [SN_add] at h1
    have h2 : SN X.G.nl (fun l => if X.on l = true ∧ X.soft (X.G.chi l) then 1 else 0) = SN X.G.P (fun q => SN X.G.nl (fun l => if X.G.chi l = q ∧ (X.on l = true ∧ X.soft (X.G.chi l)) then 1 else 0)) := (SN_by X.G.chi (fun l => X.on l = true ∧ X.soft (X.G.chi l)) hX.g.lc).symm
    have h3 : SN X.G.P (fun q => SN X.G.nl (fun l => if X.G.chi l = q ∧ (X.on l = true ∧ X.soft (X.G.chi l)) then 1 else 0)) ≤ SN X.G.P (fun q => if X.soft q then 2 else 0) := by
      refine SN_le fun q hq => ?_
      by_cases c : X.soft q
      · rw [if_pos c]
        refine Nat.le_trans (SN_le fun l hl => ?_) (hX.two q hq)
        by_cases c2 : X.G.chi l = q ∧ (X.on l = true ∧ X.soft (X.G.chi l))
        · rw [if_pos c2, if_pos ⟨c2.1, c2.2.1⟩]; exact Nat.le_refl _
        · rw [if_neg c2]; exact Nat.zero_le _
      · rw [if_neg c]
        have : SN X.G.nl (fun l => if X.G.chi l = q ∧ (X.on l = true ∧ X.soft (X.G.chi l)) then 1 else 0) = SN X.G.nl (fun _ => 0) := SN_congr fun l hl => if_neg fun h => c (by rw [← h.1]; exact h.2.2)
        rw [this, SN_zero]
        exact Nat.le_refl _
    have h4 : X.opens = SN X.G.nl (fun l => if X.op l = true then 1 else 0) := rfl
    omega
  have hE : SN X.G.P (fun p => X.e p + (if X.soft p then 2 else 0)) ≤ SN X.G.P (fun p => X.N p + X.V p) := by
    refine SN_le fun p hp => ?_
    have h1 := Fam.NcV hX p
    have h2 := Fam.c_N hX p
    unfold Fam.e
    by_cases c : X.soft p
    · rw [if_pos c, if_pos c]
      have := c.2.2.1
      have := c.2.2.2
      omega
    · rw [if_neg c, if_neg c]
      omega
  rw [SN_add, SN_add, hN, hV] at hE
  omega
end
