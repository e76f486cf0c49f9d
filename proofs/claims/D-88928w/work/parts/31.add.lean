section
/-- a fraction in lowest terms -/
def Fr (u l : Int64) (q : Rat) : Prop := u = lZ q.num ∧ l = lN q.den
theorem lZ_mul (a b : Int) : lZ a * lZ b = lZ (a * b) := (Int64.ofInt_mul a b).symm
theorem lZ_add (a b : Int) : lZ a + lZ b = lZ (a + b) := (Int64.ofInt_add a b).symm
theorem lZ_div {a : Int} {h : Nat} (h0 : 0 < h) (hh : h < 2 ^ 63) (h1 : -2 ^ 63 < a) (h2 : a < 2 ^ 63) (hd : (h : Int) ∣ a) : lZ a / lN h = lZ (a / h) := by
  obtain ⟨k, rfl⟩ := hd
  have hk1 : -2 ^ 63 < k := by
    rcases Int.lt_or_le k 0 with c | c
    · have : (h : Int) * k ≤ k := by
        have := Int.mul_le_mul_of_nonpos_right (a := (h : Int)) (b := 1) (c := k) (by omega) (by omega)
        omega
      omega
    · omega
  have hk2 : k < 2 ^ 63 := by
    rcases Int.lt_or_le 0 k with c | c
    · have : k ≤ (h : Int) * k := by
        have := Int.mul_le_mul_of_nonneg_right (a := 1) (b := (h : Int)) (c := k) (by omega) (by omega)
        omega
      omega
    · omega
  apply lZ_inj
  rw [Int64.toInt_div, lZ_toInt (by omega) h2, pk_lT hh, Int.mul_ediv_cancel_left _ (by omega), lZ_toInt (by omega) hk2, Int.mul_tdiv_cancel_left _ (by omega)]
  exact Int.bmod_eq_of_le (by omega) (by omega)
theorem add_rat (u v : Int) {l m : Nat} (hl : 0 < l) (hm : 0 < m) : mkRat u l + mkRat v m = mkRat (u * (m / Nat.gcd l m : Nat) + v * (l / Nat.gcd l m : Nat)) (l / Nat.gcd l m * m) := by
  have hg : 0 < Nat.gcd l m := Nat.gcd_pos_of_pos_left _ hl
  obtain ⟨a, ha⟩ := Nat.gcd_dvd_left l m
  obtain ⟨b, hb⟩ := Nat.gcd_dvd_right l m
  have e1 : l / Nat.gcd l m = a := by conv => lhs; lhs; rw [ha]
                                      exact Nat.mul_div_cancel_left _ hg
  have e2 : m / Nat.gcd l m = b := by conv => lhs; lhs; rw [hb]
                                      exact Nat.mul_div_cancel_left _ hg
  rw [Rat.mkRat_add_mkRat _ _ (by omega) (by omega), e1, e2, ← Rat.mkRat_mul_right (a := Nat.gcd l m) (by omega) (n := u * (b : Int) + v * (a : Int))]
  congr 1
  · have h1 : (l : Int) = Nat.gcd l m * a := by exact_mod_cast ha
    have h2 : (m : Int) = Nat.gcd l m * b := by exact_mod_cast hb
    generalize (Nat.gcd l m : Int) = g at h1 h2
    rw [h1, h2]
    grind
  · conv => lhs; lhs; rw [ha]
    grind
theorem gcd_up {l m D : Nat} (hl : 0 < l) (hm : 0 < m) (hlD : l ∣ D) (hmD : m ∣ D) (hD : 0 < D) : l / Nat.gcd l m * m ∣ D ∧ m / Nat.gcd l m ≤ D / l ∧ l / Nat.gcd l m ≤ D / m := by
  have hg : 0 < Nat.gcd l m := Nat.gcd_pos_of_pos_left _ hl
  have e : l / Nat.gcd l m * m = Nat.lcm l m := by
    rw [Nat.lcm, Nat.div_mul_right_comm (Nat.gcd_dvd_left l m)]
  have e2 : l * (m / Nat.gcd l m) = Nat.lcm l m := by
    rw [Nat.lcm, Nat.mul_div_assoc _ (Nat.gcd_dvd_right l m)]
  have hd : Nat.lcm l m ∣ D := Nat.lcm_dvd hlD hmD
  refine ⟨by rw [e]; exact hd, ?_, ?_⟩
  · rw [Nat.le_div_iff_mul_le hl, Nat.mul_comm, e2]
    exact Nat.le_of_dvd hD hd
  · rw [Nat.le_div_iff_mul_le hm, e]
    exact Nat.le_of_dvd hD hd
/-- a sum of fractions, all over D -/
theorem add_eq {U V : Int} {L M D : Nat} (hl : 0 < L) (hm : 0 < M) (hlD : L ∣ D) (hmD : M ∣ D) (hD : 0 < D) (hD63 : D < 2 ^ 63) (hB : U.natAbs * (D / L) + V.natAbs * (D / M) < 2 ^ 63) :
    let g := Nat.gcd L M
    let up := U * (M / g : Nat) + V * (L / g : Nat)
    let low := L / g * M
    0 < low ∧ low < 2 ^ 63 ∧ -2 ^ 63 < up ∧ up < 2 ^ 63 ∧ M / g < 2 ^ 63 ∧ L / g < 2 ^ 63 ∧ g < 2 ^ 63 ∧ 0 < g ∧ mkRat U L + mkRat V M = mkRat up low := by
  intro g up low
  have hg : 0 < g := Nat.gcd_pos_of_pos_left _ hl
  obtain ⟨h1, h2, h3⟩ := gcd_up hl hm hlD hmD hD
  have hlow : low ≤ D := Nat.le_of_dvd hD h1
  have hlow0 : 0 < low := Nat.pos_of_dvd_of_pos h1 hD
  have hgl : g ≤ L := Nat.le_of_dvd hl (Nat.gcd_dvd_left L M)
  have hLD : L ≤ D := Nat.le_of_dvd hD hlD
  have hMD : M ≤ D := Nat.le_of_dvd hD hmD
  have a1 : U.natAbs * (M / g) ≤ U.natAbs * (D / L) := Nat.mul_le_mul_left _ h2
  have a2 : V.natAbs * (L / g) ≤ V.natAbs * (D / M) := Nat.mul_le_mul_left _ h3
  have b1 : (U * (M / g : Nat)).natAbs = U.natAbs * (M / g) := by rw [Int.natAbs_mul]; rfl
  have b2 : (V * (L / g : Nat)).natAbs = V.natAbs * (L / g) := by rw [Int.natAbs_mul]; rfl
  have c1 : M / g ≤ M := Nat.div_le_self _ _
  have c2 : L / g ≤ L := Nat.div_le_self _ _
  refine ⟨hlow0, by omega, ?_, ?_, by omega, by omega, by omega, hg, add_rat U V hl hm⟩ <;> (show _ < _; omega)
theorem fr_mk {up : Int} {low : Nat} (h0 : 0 < low) (hl : low < 2 ^ 63) (h1 : -2 ^ 63 < up) (h2 : up < 2 ^ 63) : Fr (lZ up / lN (Int.gcd up low)) (lN low / lN (Int.gcd up low)) (mkRat up low) := by
  have hg : 0 < Int.gcd up low := Int.gcd_pos_of_ne_zero_right _ (by omega)
  have hgd : Int.gcd up low ∣ low := by
    have := Int.gcd_dvd_right up (low : Int)
    exact_mod_cast this
  have hgl : Int.gcd up low ≤ low := Nat.le_of_dvd h0 hgd
  have e : low.gcd up.natAbs = Int.gcd up low := by rw [Nat.gcd_comm]; rfl
  constructor
  · rw [lZ_div hg (by omega) h1 h2 (Int.gcd_dvd_left up low), Rat.num_mkRat, if_neg (by omega), e]
  · rw [pk_lDiv hl hg (by omega), Rat.den_mkRat, if_neg (by omega), e]
theorem add0 {post : CS → Prop} {s0 : CS} {U V : Int} {L M : Nat} (D : Nat) (hl : 0 < L) (hm : 0 < M) (hlD : L ∣ D) (hmD : M ∣ D) (hD : 0 < D) (hD63 : D < 2 ^ 63) (hB : U.natAbs * (D / L) + V.natAbs * (D / M) < 2 ^ 63)
    (h : ∀ a b, Fr a b (mkRat U L + mkRat V M) → post (uL (uL s0 4 a) 5 b)) : wpX0_add post s0 (lZ U) (lN L) (lZ V) (lN M) := by
  obtain ⟨h1, h2, h3, h4, h5, h6, h7, h8, h9⟩ := add_eq hl hm hlD hmD hD hD63 hB
  have hL : L < 2 ^ 63 := by have := Nat.le_of_dvd hD hlD; omega
  have hM : M < 2 ^ 63 := by have := Nat.le_of_dvd hD hmD; omega
  unfold wpX0_add
  refine gcd0 (by rw [pk_lT hL]; omega) (by rw [pk_lT hM]; omega) ?_
  have eg : Int.gcd (lN L).toInt (lN M).toInt = Nat.gcd L M := by rw [pk_lT hL, pk_lT hM]; rfl
  rw [eg]
  have hne : ¬ lN (Nat.gcd L M) = 0 := fun e => absurd ((pk_lEQ h7 (by decide)).mp (e.trans (by rfl : (0 : Int64) = lN 0))) (by omega)
  refine ⟨hne, hne, fun x11 e11 => ⟨hne, fun x13 e13 => ?_⟩⟩
  rw [pk_lDiv hM h8 h7, pk_lDiv hL h8 h7, ← lZ_nat, ← lZ_nat, lZ_mul, lZ_mul, lZ_add] at e11
  rw [pk_lDiv hL h8 h7, lN_mul] at e13
  subst e11 e13
  refine gcd0 (by rw [lZ_toInt (by omega) h4]; exact h3) (by rw [pk_lT h2]; omega) ?_
  rw [lZ_toInt (by omega) h4, pk_lT h2]
  have hfr := fr_mk h1 h2 h3 h4
  rw [← h9] at hfr
  have hgp : 0 < Int.gcd (U * (M / Nat.gcd L M : Nat) + V * (L / Nat.gcd L M : Nat)) ((L / Nat.gcd L M * M : Nat) : Int) := Int.gcd_pos_of_ne_zero_right _ (by omega)
  have hgl : Int.gcd (U * (M / Nat.gcd L M : Nat) + V * (L / Nat.gcd L M : Nat)) ((L / Nat.gcd L M * M : Nat) : Int) ≤ L / Nat.gcd L M * M := by
    refine Nat.le_of_dvd h1 ?_
    have := Int.gcd_dvd_right (U * (M / Nat.gcd L M : Nat) + V * (L / Nat.gcd L M : Nat)) ((L / Nat.gcd L M * M : Nat) : Int)
    exact_mod_cast this
  have hne2 : ¬ lN (Int.gcd (U * (M / Nat.gcd L M : Nat) + V * (L / Nat.gcd L M : Nat)) ((L / Nat.gcd L M * M : Nat) : Int)) = 0 := fun e => absurd ((pk_lEQ (by omega) (by decide)).mp (e.trans (by rfl : (0 : Int64) = lN 0))) (by omega)
  refine ⟨hne2, fun s11 e1 => ⟨hne2, fun s13 e2 => ?_⟩⟩
  rw [e2, e1]
  exact h _ _ hfr
end
