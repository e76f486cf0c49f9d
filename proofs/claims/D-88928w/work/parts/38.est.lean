section
theorem SN_list {n : Nat} : ∀ (Z : List Nat) (c : Nat → Prop) [DecidablePred c], Z.Nodup → (∀ z, z ∈ Z → z < n ∧ c z) → Z.length ≤ SN n (fun i => if c i then 1 else 0)
  | [], _, _, _, _ => Nat.zero_le _
  | z :: Z, c, _, hn, h => by
    obtain ⟨hz, hn⟩ := List.nodup_cons.mp hn
    have h0 := h z (List.mem_cons_self ..)
    rw [SN_split (k := z) _ h0.1, if_pos h0.2]
    have e : SN n (fun i => if z = i then 0 else if c i then 1 else 0) = SN n (fun i => if z ≠ i ∧ c i then 1 else 0) := SN_congr fun i hi => by
      by_cases c1 : z = i
      · rw [if_pos c1, if_neg (fun h => h.1 c1)]
      · by_cases c2 : c i
        · rw [if_neg c1, if_pos c2, if_pos ⟨c1, c2⟩]
        · rw [if_neg c1, if_neg c2, if_neg (fun h => c2 h.2)]
    rw [e]
    have := SN_list Z (fun i => z ≠ i ∧ c i) hn (fun y hy => ⟨(h y (List.mem_cons_of_mem _ hy)).1, fun e => hz (e ▸ hy), (h y (List.mem_cons_of_mem _ hy)).2⟩)
    simp only [List.length_cons]
    omega
theorem SN_ones (n : Nat) : SN n (fun _ => 1) = n := by
  induction n with
  | zero => rfl
  | succ n ih => simp only [SN, ih]
theorem SN_none {n : Nat} {c : Nat → Prop} [DecidablePred c] (h : SN n (fun i => if c i then 1 else 0) = 0) : ∀ i, i < n → ¬ c i := by
  intro i hi hc
  have := SN_pos_iff.mpr ⟨i, hi, hc⟩
  omega
/-- two of them: these two -/
theorem SN_pair {n : Nat} {c : Nat → Prop} [DecidablePred c] (h : SN n (fun i => if c i then 1 else 0) = 2) : ∃ i j, i < n ∧ j < n ∧ i ≠ j ∧ c i ∧ c j ∧ ∀ k, k < n → c k → k = i ∨ k = j := by
  obtain ⟨i, hi, ci⟩ := SN_pos_iff.mp (show 0 < SN n (fun i => if c i then 1 else 0) by omega)
  rw [SN_split (k := i) _ hi, if_pos ci] at h
  have e : SN n (fun k => if i = k then 0 else if c k then 1 else 0) = SN n (fun k => if i ≠ k ∧ c k then 1 else 0) := SN_congr fun k hk => by
    by_cases c1 : i = k
    · rw [if_pos c1, if_neg (fun h => h.1 c1)]
    · by_cases c2 : c k
      · rw [if_neg c1, if_pos c2, if_pos ⟨c1, c2⟩]
      · rw [if_neg c1, if_neg c2, if_neg (fun h => c2 h.2)]
  rw [e] at h
  obtain ⟨j, hj, cj⟩ := SN_pos_iff.mp (show 0 < SN n (fun k => if i ≠ k ∧ c k then 1 else 0) by omega)
  refine ⟨i, j, hi, hj, cj.1, ci, cj.2, fun k hk ck => ?_⟩
  by_cases c1 : k = i
  · exact Or.inl c1
  · by_cases c2 : k = j
    · exact Or.inr c2
    · exfalso
      have := SN_list (n := n) [j, k] (fun k => i ≠ k ∧ c k) (by simp; exact fun e => c2 e.symm) (by
        intro z hz
        rcases List.mem_cons.mp hz with e | hz
        · subst e; exact ⟨hj, cj⟩
        · have e := List.mem_singleton.mp hz
          subst e; exact ⟨hk, fun e => c1 e.symm, ck⟩)
      simp only [List.length_cons, List.length_nil] at this
      omega
theorem SN_at2 {n i j : Nat} {g : Nat → Nat} (hi : i < n) (hj : j < n) (hij : i ≠ j) (h : ∀ k, k < n → k ≠ i → k ≠ j → g k = 0) : SN n g = g i + g j := by
  rw [SN_split (k := i) _ hi, SN_split (k := j) _ hj, if_neg hij]
  have : SN n (fun k => if j = k then 0 else if i = k then 0 else g k) = SN n (fun _ => 0) := SN_congr fun k hk => by
    by_cases c1 : j = k
    · rw [if_pos c1]
    · by_cases c2 : i = k
      · rw [if_neg c1, if_pos c2]
      · rw [if_neg c1, if_neg c2]; exact h k hk (fun e => c2 e.symm) (fun e => c1 e.symm)
  rw [this, SN_zero]; rfl
/-- an estate with open claims: W ways -/
def Est : Type := Gr × Nat × (Nat → Nat → Bool) × Nat
def Est.G (Y : Est) : Gr := Y.1
def Est.W (Y : Est) : Nat := Y.2.1
def Est.cnt (Y : Est) : Nat → Nat → Bool := Y.2.2.1
def Est.C (Y : Est) : Nat := Y.2.2.2
def Est.fam (Y : Est) : Fam := (Y.G, Y.W, Y.cnt, fun w q => rootQ Y.G (Y.cnt w) Y.C q)
def Est.u (Y : Est) (l : Nat) : Bool := anyN Y.W (fun w => Y.cnt w l)
def Est.vy (Y : Est) (l : Nat) : Bool := Y.u l && anyN Y.W (fun w => !Y.cnt w l)
def Est.nU (Y : Est) : Nat := SN Y.G.nl (fun l => if Y.u l = true then 1 else 0)
def Est.nO (Y : Est) : Nat := SN Y.G.nl (fun l => if Y.vy l = true then 1 else 0)
def Est.t (Y : Est) : Nat := SN Y.G.nl (fun l => if Y.G.chi l = Y.G.d ∧ Y.u l = true then 1 else 0)
def Est.ok (Y : Est) : Prop := Y.G.ok ∧ 0 < Y.W ∧ Y.G.d < Y.G.P ∧ Y.G.P ≤ 24 ∧ (∀ q, SN Y.G.nl (fun l => if Y.G.chi l = q ∧ Y.u l = true then 1 else 0) ≤ 2) ∧ (∀ p q, SN Y.G.nl (fun l => if Y.G.chi l = q ∧ (Y.G.par l = p ∧ Y.u l = true) then 1 else 0) ≤ 1) ∧ Y.nO ≤ 8
variable {Y : Est}
theorem Est.ok.g (h : Y.ok) : Y.G.ok := h.1
theorem Est.ok.w (h : Y.ok) : 0 < Y.W := h.2.1
theorem Est.ok.dP (h : Y.ok) : Y.G.d < Y.G.P := h.2.2.1
theorem Est.ok.P24 (h : Y.ok) : Y.G.P ≤ 24 := h.2.2.2.1
theorem Est.ok.two (h : Y.ok) : ∀ q, SN Y.G.nl (fun l => if Y.G.chi l = q ∧ Y.u l = true then 1 else 0) ≤ 2 := h.2.2.2.2.1
theorem Est.ok.one (h : Y.ok) : ∀ p q, SN Y.G.nl (fun l => if Y.G.chi l = q ∧ (Y.G.par l = p ∧ Y.u l = true) then 1 else 0) ≤ 1 := h.2.2.2.2.2.1
theorem Est.ok.o8 (h : Y.ok) : Y.nO ≤ 8 := h.2.2.2.2.2.2
theorem Est.u_of {w l : Nat} (hw : w < Y.W) (h : Y.cnt w l = true) : Y.u l = true := anyN_iff.mpr ⟨w, hw, h⟩
theorem Est.on_u {l : Nat} (h : Y.fam.on l = true) : Y.u l = true ∧ Y.G.chi l ≠ Y.G.d := by
  obtain ⟨w, hw, hf⟩ := Fam.on_iff.mp h
  have h1 := (Fam.f_ne hf).1
  unfold actv at h1
  rw [Bool.and_eq_true] at h1
  refine ⟨Est.u_of hw h1.1, ?_⟩
  have h2 := h1.2
  rw [inn] at h2
  simp only [Bool.and_eq_true, bne_iff_ne] at h2
  exact h2.1
theorem Est.fam_ok (hY : Y.ok) : Y.fam.ok := ⟨hY.g, hY.w, fun w _ q _ => root_nonneg _ _ _ q, fun w _ => root_sum _ _ _, fun q _ => Nat.le_trans (SN_le fun l hl => by
    by_cases c : Y.fam.G.chi l = q ∧ Y.fam.on l = true
    · rw [if_pos c, if_pos (show Y.G.chi l = q ∧ Y.u l = true from ⟨c.1, (Est.on_u c.2).1⟩)]; exact Nat.le_refl _
    · rw [if_neg c]; exact Nat.zero_le _) (hY.two q)⟩
theorem Est.N_lt (hY : Y.ok) (p : Nat) : Y.fam.N p < 24 := by
  have h1 : Y.fam.N p = SN Y.G.P (fun q => SN Y.G.nl (fun l => if Y.G.chi l = q ∧ (Y.G.par l = p ∧ Y.fam.on l = true) then 1 else 0)) := (SN_by Y.G.chi (fun l => Y.G.par l = p ∧ Y.fam.on l = true) hY.g.lc).symm
  have h2 : SN Y.G.P (fun q => SN Y.G.nl (fun l => if Y.G.chi l = q ∧ (Y.G.par l = p ∧ Y.fam.on l = true) then 1 else 0)) ≤ SN Y.G.P (fun q => if Y.G.d = q then 0 else 1) := by
    refine SN_le fun q hq => ?_
    by_cases c : Y.G.d = q
    · rw [if_pos c]
      refine Nat.le_of_eq ((SN_congr fun l hl => if_neg fun h => ?_).trans (SN_zero Y.G.nl))
      exact (Est.on_u h.2.2).2 (h.1.trans c.symm)
    · rw [if_neg c]
      refine Nat.le_trans (SN_le fun l hl => ?_) (hY.one p q)
      by_cases c : Y.G.chi l = q ∧ (Y.G.par l = p ∧ Y.fam.on l = true)
      · rw [if_pos c, if_pos ⟨c.1, c.2.1, (Est.on_u c.2.2).1⟩]; exact Nat.le_refl _
      · rw [if_neg c]; exact Nat.zero_le _
  have h3 := SN_split (k := Y.G.d) (fun _ => 1) hY.dP
  rw [SN_ones] at h3
  have := hY.P24
  omega
/-- the lines that do not carry, and the claims that do not matter -/
theorem Est.waste (k : Nat) (h : k ≤ SN Y.G.nl (fun l => if Y.u l = true ∧ ¬ Y.fam.on l = true then 1 else 0) + SN Y.G.nl (fun l => if Y.vy l = true ∧ ¬ Y.fam.op l = true then 1 else 0)) : Y.fam.lines + Y.fam.opens + k ≤ Y.nU + Y.nO := by
  have h1 : Y.fam.lines + SN Y.G.nl (fun l => if Y.u l = true ∧ ¬ Y.fam.on l = true then 1 else 0) ≤ Y.nU := by
    unfold Fam.lines Est.nU
    show SN Y.G.nl _ + _ ≤ _
    rw [← SN_add]
    refine SN_le fun l hl => ?_
    by_cases c : Y.fam.on l = true
    · rw [if_pos c, if_neg (fun h => h.2 c), if_pos (Est.on_u c).1]; exact Nat.le_refl _
    · rw [if_neg c]
      by_cases c2 : Y.u l = true
      · rw [if_pos ⟨c2, c⟩, if_pos c2]; exact Nat.le_refl _
      · rw [if_neg (fun h => c2 h.1), if_neg c2]; exact Nat.le_refl _
  have h2 : Y.fam.opens + SN Y.G.nl (fun l => if Y.vy l = true ∧ ¬ Y.fam.op l = true then 1 else 0) ≤ Y.nO := by
    unfold Fam.opens Est.nO
    show SN Y.G.nl _ + _ ≤ _
    rw [← SN_add]
    refine SN_le fun l hl => ?_
    by_cases c : Y.fam.op l = true
    · have cv : Y.vy l = true := by
        unfold Fam.op at c
        simp only [Bool.and_eq_true] at c
        unfold Est.vy
        rw [Bool.and_eq_true]
        exact ⟨c.1.2, c.2⟩
      rw [if_pos c, if_neg (fun h => h.2 c), if_pos cv]; exact Nat.le_refl _
    · rw [if_neg c]
      by_cases c2 : Y.vy l = true
      · rw [if_pos ⟨c2, c⟩, if_pos c2]; exact Nat.le_refl _
      · rw [if_neg (fun h => c2 h.1), if_neg c2]; exact Nat.le_refl _
  omega
theorem Est.waste_t : Y.t ≤ SN Y.G.nl (fun l => if Y.u l = true ∧ ¬ Y.fam.on l = true then 1 else 0) := by
  unfold Est.t
  refine SN_le fun l hl => ?_
  by_cases c : Y.G.chi l = Y.G.d ∧ Y.u l = true
  · rw [if_pos c, if_pos ⟨c.2, fun h => (Est.on_u h).2 c.1⟩]; exact Nat.le_refl _
  · rw [if_neg c]; exact Nat.zero_le _
/-! heads -/
def Est.a2 (Y : Est) (q : Nat) : Nat := SN Y.G.nl (fun l => if Y.G.par l = q ∧ (Y.G.chi l = Y.G.d ∧ Y.u l = true) then 1 else 0)
def Est.a3 (Y : Est) (q : Nat) : Nat := SN Y.G.nl (fun l => if Y.G.chi l = Y.G.d ∧ Y.u l = true then SN Y.G.nl (fun m => if Y.G.par m = q ∧ (Y.G.chi m = Y.G.par l ∧ Y.u m = true) then 1 else 0) else 0)
theorem Est.a2_sum (hY : Y.ok) : SN Y.G.P Y.a2 = Y.t := SN_by Y.G.par (fun l => Y.G.chi l = Y.G.d ∧ Y.u l = true) hY.g.lp
theorem Est.a3_sum (hY : Y.ok) : SN Y.G.P Y.a3 ≤ 2 * Y.t := by
  unfold Est.a3
  rw [SN_swap]
  have h1 : SN Y.G.nl (fun l => SN Y.G.P (fun q => if Y.G.chi l = Y.G.d ∧ Y.u l = true then SN Y.G.nl (fun m => if Y.G.par m = q ∧ (Y.G.chi m = Y.G.par l ∧ Y.u m = true) then 1 else 0) else 0)) ≤ SN Y.G.nl (fun l => (if Y.G.chi l = Y.G.d ∧ Y.u l = true then 1 else 0) + (if Y.G.chi l = Y.G.d ∧ Y.u l = true then 1 else 0)) := by
    refine SN_le fun l hl => ?_
    by_cases c : Y.G.chi l = Y.G.d ∧ Y.u l = true
    · rw [if_pos c]
      have e : SN Y.G.P (fun q => if Y.G.chi l = Y.G.d ∧ Y.u l = true then SN Y.G.nl (fun m => if Y.G.par m = q ∧ (Y.G.chi m = Y.G.par l ∧ Y.u m = true) then 1 else 0) else 0) = SN Y.G.nl (fun m => if Y.G.chi m = Y.G.par l ∧ Y.u m = true then 1 else 0) := by
        rw [← SN_by Y.G.par (fun m => Y.G.chi m = Y.G.par l ∧ Y.u m = true) hY.g.lp]
        exact SN_congr fun q hq => if_pos c
      rw [e]
      exact hY.two _
    · rw [if_neg c]
      refine Nat.le_of_eq ((SN_congr fun q hq => if_neg c).trans (SN_zero Y.G.P))
  rw [SN_add] at h1
  unfold Est.t
  omega
theorem Est.hd2_le {w : Nat} (hw : w < Y.W) (q : Nat) : hd2 Y.G (Y.cnt w) q ≤ Y.a2 q := SN_le fun l hl => by
  by_cases c : Y.G.par l = q ∧ (Y.G.chi l = Y.G.d ∧ Y.cnt w l = true)
  · rw [if_pos c, if_pos ⟨c.1, c.2.1, Est.u_of hw c.2.2⟩]; exact Nat.le_refl _
  · rw [if_neg c]; exact Nat.zero_le _
theorem Est.hd3_le {w : Nat} (hw : w < Y.W) (q : Nat) : hd3 Y.G (Y.cnt w) q ≤ Y.a3 q := SN_le fun l hl => by
  by_cases c : Y.G.chi l = Y.G.d ∧ Y.cnt w l = true
  · rw [if_pos c, if_pos ⟨c.1, Est.u_of hw c.2⟩]
    refine SN_le fun m hm => ?_
    by_cases c : Y.G.par m = q ∧ (Y.G.chi m = Y.G.par l ∧ Y.cnt w m = true)
    · rw [if_pos c, if_pos ⟨c.1, c.2.1, Est.u_of hw c.2.2⟩]; exact Nat.le_refl _
    · rw [if_neg c]; exact Nat.zero_le _
  · rw [if_neg c]; exact Nat.zero_le _
theorem Est.rwt_le {w : Nat} (hw : w < Y.W) (q : Nat) : rwt Y.G (Y.cnt w) Y.C q ≤ (if Y.G.d = q then 1 else 0) + Y.a2 q + Y.a3 q := by
  have h2 := Est.hd2_le hw q
  have h3 := Est.hd3_le hw q
  unfold rwt
  split
  · omega
  · split
    · split <;> omega
    · split
      · split <;> omega
      · omega
theorem Est.Rt_sum (hY : Y.ok) : SQ Y.G.P Y.fam.Rt ≤ ((1 + 3 * Y.t : Nat) : Rat) := by
  have h1 : SQ Y.G.P Y.fam.Rt ≤ SQ Y.G.P (fun q => (((if Y.G.d = q then 1 else 0) + Y.a2 q + Y.a3 q : Nat) : Rat)) := SQ_le fun q hq => by
    refine mxQ_le (by exact_mod_cast Nat.zero_le _) fun w hw => ?_
    exact Rat.le_trans (root_le hq) (by exact_mod_cast Est.rwt_le hw q)
  rw [← SQ_cast] at h1
  refine Rat.le_trans h1 ?_
  have h2 : SN Y.G.P (fun q => (if Y.G.d = q then 1 else 0) + Y.a2 q + Y.a3 q) ≤ 1 + 3 * Y.t := by
    rw [SN_add, SN_add, SN_one Y.G.P Y.G.d (fun _ => 1), Est.a2_sum hY]
    have := Est.a3_sum hY
    split <;> omega
  exact_mod_cast h2
/-- how many heads -/
theorem Est.htot_1 (hY : Y.ok) {w : Nat} (h : circ Y.G (Y.cnt w) Y.C = 1) : htot Y.G (Y.cnt w) Y.C = 1 := by
  unfold htot
  have : SN Y.G.P (rwt Y.G (Y.cnt w) Y.C) = SN Y.G.P (fun q => if Y.G.d = q then (fun _ => 1) q else 0) := SN_congr fun q hq => by
    unfold rwt
    rw [if_pos h]
  rw [this, SN_one, if_pos hY.dP]
theorem Est.htot_2 (hY : Y.ok) {w : Nat} (hw : w < Y.W) (h : circ Y.G (Y.cnt w) Y.C = 2) : htot Y.G (Y.cnt w) Y.C ≤ Y.t := by
  unfold htot
  rw [← Est.a2_sum hY]
  refine SN_le fun q hq => ?_
  unfold rwt
  rw [h, if_neg (by decide), if_pos rfl]
  split
  · exact Est.hd2_le hw q
  · exact Nat.zero_le _
theorem Est.htot_3 {w : Nat} (h : circ Y.G (Y.cnt w) Y.C = 3) : htot Y.G (Y.cnt w) Y.C ≤ SN Y.G.P (hd3 Y.G (Y.cnt w)) := by
  unfold htot
  refine SN_le fun q hq => ?_
  unfold rwt
  rw [h, if_neg (by decide), if_neg (by decide), if_pos rfl]
  split
  · exact Nat.le_refl _
  · exact Nat.zero_le _
theorem Est.htot_0 {w : Nat} (h1 : circ Y.G (Y.cnt w) Y.C ≠ 1) (h2 : circ Y.G (Y.cnt w) Y.C ≠ 2) (h3 : circ Y.G (Y.cnt w) Y.C ≠ 3) : htot Y.G (Y.cnt w) Y.C = 0 := by
  unfold htot
  refine (SN_congr fun q hq => ?_).trans (SN_zero Y.G.P)
  unfold rwt
  rw [if_neg h1, if_neg h2, if_neg h3]
theorem Est.htot_le (hY : Y.ok) {w : Nat} (hw : w < Y.W) : htot Y.G (Y.cnt w) Y.C ≤ 1 ∨ htot Y.G (Y.cnt w) Y.C ≤ 2 * Y.t := by
  by_cases c1 : circ Y.G (Y.cnt w) Y.C = 1
  · exact Or.inl (Nat.le_of_eq (Est.htot_1 hY c1))
  · by_cases c2 : circ Y.G (Y.cnt w) Y.C = 2
    · have := Est.htot_2 hY hw c2
      exact Or.inr (by omega)
    · by_cases c3 : circ Y.G (Y.cnt w) Y.C = 3
      · refine Or.inr (Nat.le_trans (Est.htot_3 c3) (Nat.le_trans (SN_le fun q hq => Est.hd3_le hw q) (Est.a3_sum hY)))
      · exact Or.inl (by rw [Est.htot_0 c1 c2 c3]; omega)
end
