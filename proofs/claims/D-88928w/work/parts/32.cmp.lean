section
theorem add1 {post : CS → Prop} {s0 : CS} {U V : Int} {L M : Nat} (D : Nat) (hl : 0 < L) (hm : 0 < M) (hlD : L ∣ D) (hmD : M ∣ D) (hD : 0 < D) (hD63 : D < 2 ^ 63) (hB : U.natAbs * (D / L) + V.natAbs * (D / M) < 2 ^ 63)
    (h : ∀ a b, Fr a b (mkRat U L + mkRat V M) → post (uL (uL s0 28 a) 29 b)) : wpX1_add post s0 (lZ U) (lN L) (lZ V) (lN M) := by
  obtain ⟨h1, h2, h3, h4, h5, h6, h7, h8, h9⟩ := add_eq hl hm hlD hmD hD hD63 hB
  have hL : L < 2 ^ 63 := by have := Nat.le_of_dvd hD hlD; omega
  have hM : M < 2 ^ 63 := by have := Nat.le_of_dvd hD hmD; omega
  unfold wpX1_add
  refine gcd1 (by rw [pk_lT hL]; omega) (by rw [pk_lT hM]; omega) ?_
  have eg : Int.gcd (lN L).toInt (lN M).toInt = Nat.gcd L M := by rw [pk_lT hL, pk_lT hM]; rfl
  rw [eg]
  have hne : ¬ lN (Nat.gcd L M) = 0 := fun e => absurd ((pk_lEQ h7 (by decide)).mp (e.trans (by rfl : (0 : Int64) = lN 0))) (by omega)
  refine ⟨hne, hne, fun x11 e11 => ⟨hne, fun x13 e13 => ?_⟩⟩
  rw [pk_lDiv hM h8 h7, pk_lDiv hL h8 h7, ← lZ_nat, ← lZ_nat, lZ_mul, lZ_mul, lZ_add] at e11
  rw [pk_lDiv hL h8 h7, lN_mul] at e13
  subst e11 e13
  refine gcd1 (by rw [lZ_toInt (by omega) h4]; exact h3) (by rw [pk_lT h2]; omega) ?_
  rw [lZ_toInt (by omega) h4, pk_lT h2]
  have hfr := fr_mk h1 h2 h3 h4
  rw [← h9] at hfr
  have hgp : 0 < Int.gcd (U * (M / Nat.gcd L M : Nat) + V * (L / Nat.gcd L M : Nat)) ((L / Nat.gcd L M * M : Nat) : Int) := Int.gcd_pos_of_ne_zero_right _ (by omega)
  have hgl : Int.gcd (U * (M / Nat.gcd L M : Nat) + V * (L / Nat.gcd L M : Nat)) ((L / Nat.gcd L M * M : Nat) : Int) ≤ L / Nat.gcd L M * M := by
    refine Nat.le_of_dvd h1 ?_
    have := Int.gcd_dvd_right (U * (M / Nat.gcd L M : Nat) + V * (L / Nat.gcd L M : Nat)) ((L / Nat.gcd L M * M : Nat) : Int)
    exact_mod_cast this
  have hne2 : ¬ lN (Int.gcd (U * (M / Nat.gcd L M : Nat) + V * (L / Nat.gcd L M : Nat)) ((L / Nat.gcd L M * M : Nat) : Int)) = 0 := fun e => absurd ((pk_lEQ (by omega) (by decide)).mp (e.trans (by rfl : (0 : Int64) = lN 0))) (by omega)
  refine ⟨hne2, fun s11 e1 => ⟨hne2, fun s13 e2 => ?_⟩⟩
  rw [e2, e1]
  exact h _ _ hfr
theorem div_mono {p q r s : Nat} (hq : 0 < q) (hs : 0 < s) (h : r * q ≤ p * s) : r / s ≤ p / q := by
  rw [Nat.le_div_iff_mul_le hq]
  refine Nat.le_of_mul_le_mul_right (c := s) ?_ hs
  have h1 : r / s * s ≤ r := Nat.div_mul_le_self r s
  calc r / s * q * s = r / s * s * q := by rw [Nat.mul_assoc, Nat.mul_comm q s, ← Nat.mul_assoc]
    _ ≤ r * q := Nat.mul_le_mul_right _ h1
    _ ≤ p * s := h
/-- is p/q below r/s; turned: is r/s below p/q -/
def blw (t : Bool) (p q r s : Nat) : Bool := if t then decide (r * q < p * s) else decide (p * s < r * q)
def b01 (b : Bool) : Int32 := if b then 1 else 0
theorem below_loop {post : Int32 → CS → Prop} {st : CS} : ∀ (q p r s : Nat) (t : Bool), 0 < q → 0 < s → p < 2 ^ 63 → q < 2 ^ 63 → r < 2 ^ 63 → s < 2 ^ 63 → post (b01 (blw t p q r s)) st → ∃ n, wX1_isBelow_17 post n (lN p) (lN q) (lN r) (lN s) (b01 t) st := by
  intro q
  induction q using Nat.strongRecOn with
  | ind q ih =>
    intro p r s t hq hs bp bq br bs h
    have z0 : (0 : Int64) = lN 0 := rfl
    have hqne : ¬ lN q = 0 := fun e => absurd ((pk_lEQ bq (by decide)).mp (e.trans z0)) (by omega)
    have hsne : ¬ lN s = 0 := fun e => absurd ((pk_lEQ bs (by decide)).mp (e.trans z0)) (by omega)
    have lx : p / q < 2 ^ 63 := Nat.lt_of_le_of_lt (Nat.div_le_self _ _) bp
    have ly : r / s < 2 ^ 63 := Nat.lt_of_le_of_lt (Nat.div_le_self _ _) br
    have lu : p % q < q := Nat.mod_lt _ hq
    have lv : r % s < s := Nat.mod_lt _ hs
    have t0 : b01 t = 0 ↔ t = false := by cases t <;> simp [b01]
    have ex : ∀ x, x = lN p / lN q → x = lN (p / q) := fun x e => by rw [e, pk_lDiv bp hq bq]
    have ey : ∀ x, x = lN r / lN s → x = lN (r / s) := fun x e => by rw [e, pk_lDiv br hs bs]
    have eu : lN p - lN (p / q) * lN q = lN (p % q) := by rw [← pk_lDiv bp hq bq]; exact pk_lRem bp hq bq
    have ev : lN r - lN (r / s) * lN s = lN (r % s) := by rw [← pk_lDiv br hs bs]; exact pk_lRem br hs bs
    have dp : p = q * (p / q) + p % q := (Nat.div_add_mod p q).symm
    have dr : r = s * (r / s) + r % s := (Nat.div_add_mod r s).symm
    by_cases hxy : p / q = r / s
    · -- the whole parts are alike
      have e1 : p * s = q * s * (p / q) + p % q * s := by
        conv => lhs; rw [dp]
        rw [Nat.add_mul, Nat.mul_right_comm]
      have e2 : r * q = q * s * (p / q) + r % s * q := by
        conv => lhs; rw [dr]
        rw [Nat.add_mul, hxy, Nat.mul_right_comm, Nat.mul_comm s q]
      have hb : blw t p q r s = if t then decide (r % s * q < p % q * s) else decide (p % q * s < r % s * q) := by
        unfold blw
        rw [e1, e2]
        cases t <;> simp
      by_cases hu : p % q = 0
      · refine ⟨1, ?_⟩
        unfold wX1_isBelow_17
        refine ⟨hqne, fun x exx => ⟨hsne, fun y eyy => ⟨fun _ => fun u euu => fun v evv => ?_, fun c => ?_⟩⟩⟩
        · rw [ex x exx, eu] at euu
          rw [ey y eyy, ev] at evv
          subst euu evv
          have cu : lN (p % q) = 0 := by rw [hu]; rfl
          refine ⟨fun _ => ?_, fun c => absurd cu c⟩
          unfold wX1_isBelow_97 wX1_isBelow_115 wX1_isBelow_127
          refine ⟨fun _ => ⟨fun cv => ?_, fun cv => ⟨fun _ => ⟨fun c => ?_, fun c => ?_⟩, fun c => absurd cu c⟩⟩, fun c => absurd cu c⟩
          · have hv : r % s = 0 := (pk_lEQ (by omega) (by decide)).mp (cv.trans z0)
            rw [hb, hu, hv] at h
            cases t <;> simpa [b01] using h
          · have hv : 0 < r % s := Nat.pos_of_ne_zero fun e => cv (by rw [e]; rfl)
            have ht : t = true := by cases t <;> simp [b01] at c ⊢
            subst ht
            rw [hb, hu] at h
            simpa [b01] using h
          · have hv : 0 < r % s := Nat.pos_of_ne_zero fun e => cv (by rw [e]; rfl)
            have ht : t = false := by cases t <;> simp [b01] at c ⊢
            subst ht
            rw [hb, hu] at h
            have : 0 < r % s * q := Nat.mul_pos hv hq
            simpa [b01, this] using h
        · exact absurd (by rw [ex x exx, ey y eyy, hxy]) c
      · by_cases hv : r % s = 0
        · refine ⟨1, ?_⟩
          unfold wX1_isBelow_17
          refine ⟨hqne, fun x exx => ⟨hsne, fun y eyy => ⟨fun _ => fun u euu => fun v evv => ?_, fun c => ?_⟩⟩⟩
          · rw [ex x exx, eu] at euu
            rw [ey y eyy, ev] at evv
            subst euu evv
            have cu : ¬ lN (p % q) = 0 := fun e => hu ((pk_lEQ (by omega) (by decide)).mp (e.trans z0))
            have cv : lN (r % s) = 0 := by rw [hv]; rfl
            refine ⟨fun c => absurd c cu, fun _ => ⟨fun _ => ?_, fun c => absurd cv c⟩⟩
            unfold wX1_isBelow_97 wX1_isBelow_115 wX1_isBelow_127
            refine ⟨fun c => absurd c cu, fun _ => ⟨fun c => absurd c cu, fun _ => ⟨fun c => ?_, fun c => ?_⟩⟩⟩
            · have ht : t = false := by cases t <;> simp [b01] at c ⊢
              subst ht
              rw [hb, hv] at h
              simpa [b01] using h
            · have ht : t = true := by cases t <;> simp [b01] at c ⊢
              subst ht
              rw [hb, hv] at h
              have : 0 < p % q * s := Nat.mul_pos (Nat.pos_of_ne_zero hu) hs
              simpa [b01, this] using h
          · exact absurd (by rw [ex x exx, ey y eyy, hxy]) c
        · have hrec : post (b01 (blw (!t) q (p % q) s (r % s))) st := by
            have : blw (!t) q (p % q) s (r % s) = blw t p q r s := by
              rw [hb]
              unfold blw
              cases t <;> simp [Nat.mul_comm]
            rw [this]; exact h
          obtain ⟨n, hn⟩ := ih (p % q) lu q s (r % s) (!t) (Nat.pos_of_ne_zero hu) (Nat.pos_of_ne_zero hv) bq (by omega) bs (by omega) hrec
          refine ⟨n + 1, ?_⟩
          unfold wX1_isBelow_17
          refine ⟨hqne, fun x exx => ⟨hsne, fun y eyy => ⟨fun _ => fun u euu => fun v evv => ?_, fun c => ?_⟩⟩⟩
          · rw [ex x exx, eu] at euu
            rw [ey y eyy, ev] at evv
            subst euu evv
            have cu : ¬ lN (p % q) = 0 := fun e => hu ((pk_lEQ (by omega) (by decide)).mp (e.trans z0))
            have cv : ¬ lN (r % s) = 0 := fun e => hv ((pk_lEQ (by omega) (by decide)).mp (e.trans z0))
            refine ⟨fun c => absurd c cu, fun _ => ⟨fun c => absurd c cv, fun _ => ⟨fun c => ?_, fun c => ?_⟩⟩⟩
            · have ht : t = false := t0.mp c
              subst ht
              exact hn
            · have ht : t = true := by cases t <;> simp [b01] at c ⊢
              subst ht
              exact hn
          · exact absurd (by rw [ex x exx, ey y eyy, hxy]) c
    · refine ⟨1, ?_⟩
      unfold wX1_isBelow_17
      refine ⟨hqne, fun x exx => ⟨hsne, fun y eyy => ⟨fun c => ?_, fun _ => ?_⟩⟩⟩
      · rw [ex x exx, ey y eyy] at c
        exact absurd ((pk_lEQ lx ly).mp c) hxy
      · rw [ex x exx, ey y eyy]
        unfold wX1_isBelow_52
        refine ⟨fun c => ?_, fun c => ?_⟩
        · have hle : r / s ≤ p / q := (pk_lLE ly lx).mp c
          have hlt : ¬ p * s < r * q := fun h9 => by
            have := div_mono hs hq (Nat.le_of_lt h9)
            omega
          have hlt2 : r * q < p * s := by
            rcases Nat.lt_or_ge (r * q) (p * s) with h9 | h9
            · exact h9
            · have := div_mono hs hq h9
              omega
          refine ⟨fun c => ?_, fun c => ?_⟩
          · have ht : t = false := by cases t <;> simp [b01] at c ⊢
            subst ht
            simpa [blw, hlt, b01] using h
          · have ht : t = true := by cases t <;> simp [b01] at c ⊢
            subst ht
            simpa [blw, hlt2, b01] using h
        · have hle : ¬ r / s ≤ p / q := fun h9 => c ((pk_lLE ly lx).mpr h9)
          have hlt : p * s < r * q := by
            rcases Nat.lt_or_ge (p * s) (r * q) with h9 | h9
            · exact h9
            · exact absurd (div_mono hq hs h9) hle
          have hlt2 : ¬ r * q < p * s := by omega
          refine ⟨fun c => ?_, fun c => ?_⟩
          · have ht : t = true := by cases t <;> simp [b01] at c ⊢
            subst ht
            simpa [blw, hlt2, b01] using h
          · have ht : t = false := by cases t <;> simp [b01] at c ⊢
            subst ht
            simpa [blw, hlt, b01] using h
theorem below1 {post : Int32 → CS → Prop} {st : CS} {p q r s : Nat} (hq : 0 < q) (hs : 0 < s) (bp : p < 2 ^ 63) (bq : q < 2 ^ 63) (br : r < 2 ^ 63) (bs : s < 2 ^ 63) (h : post (b01 (decide (p * s < r * q))) st) : wpX1_isBelow post st (lN p) (lN q) (lN r) (lN s) :=
  below_loop q p r s false hq hs bp bq br bs h
/-- cross products that fit -/
theorem cmp0 {post : Int32 → CS → Prop} {st : CS} {U V L M : Nat} (hl : 0 < L) (hm : 0 < M) (bl : L < 2 ^ 63) (bm : M < 2 ^ 63) (b1 : U * (M / Nat.gcd L M) < 2 ^ 63) (b2 : V * (L / Nat.gcd L M) < 2 ^ 63)
    (h : post (if U * M < V * L then -1 else if U * M = V * L then 0 else 1) st) : wpX0_compare post st (lN U) (lN L) (lN V) (lN M) := by
  unfold wpX0_compare
  refine gcd0 (by rw [pk_lT bl]; omega) (by rw [pk_lT bm]; omega) ?_
  have eg : Int.gcd (lN L).toInt (lN M).toInt = Nat.gcd L M := by rw [pk_lT bl, pk_lT bm]; rfl
  rw [eg]
  have hg : 0 < Nat.gcd L M := Nat.gcd_pos_of_pos_left _ hl
  have hgl : Nat.gcd L M ≤ L := Nat.le_of_dvd hl (Nat.gcd_dvd_left L M)
  have hne : ¬ lN (Nat.gcd L M) = 0 := fun e => absurd ((pk_lEQ (by omega) (by decide)).mp (e.trans (by rfl : (0 : Int64) = lN 0))) (by omega)
  refine ⟨hne, hne, ?_⟩
  rw [pk_lDiv bm hg (by omega), pk_lDiv bl hg (by omega), lN_mul, lN_mul]
  obtain ⟨a, ha⟩ := Nat.gcd_dvd_left L M
  obtain ⟨b, hb⟩ := Nat.gcd_dvd_right L M
  have e1 : L / Nat.gcd L M = a := by conv => lhs; lhs; rw [ha]
                                      exact Nat.mul_div_cancel_left _ hg
  have e2 : M / Nat.gcd L M = b := by conv => lhs; lhs; rw [hb]
                                      exact Nat.mul_div_cancel_left _ hg
  have k1 : U * M = U * b * Nat.gcd L M := by conv => lhs; rw [hb]
                                              rw [Nat.mul_comm (Nat.gcd L M) b, Nat.mul_assoc]
  have k2 : V * L = V * a * Nat.gcd L M := by conv => lhs; rw [ha]
                                              rw [Nat.mul_comm (Nat.gcd L M) a, Nat.mul_assoc]
  rw [e1] at b2 ⊢
  rw [e2] at b1 ⊢
  have c1 : U * M < V * L ↔ U * b < V * a := by rw [k1, k2]; exact Nat.mul_lt_mul_right hg
  have c2 : U * M = V * L ↔ U * b = V * a := by rw [k1, k2]; exact Nat.mul_right_cancel_iff hg
  unfold wpJ6_compare
  refine ⟨fun c => ⟨fun c3 => ?_, fun c3 => ?_⟩, fun c => ?_⟩
  · have h3 : U * b = V * a := (pk_lEQ b1 b2).mp c3
    rw [if_neg (by rw [c1]; omega), if_pos (c2.mpr h3)] at h
    exact h
  · have h2 : V * a ≤ U * b := (pk_lLE b2 b1).mp c
    have h3 : ¬ U * b = V * a := fun e => c3 ((pk_lEQ b1 b2).mpr e)
    rw [if_neg (by rw [c1]; omega), if_neg (by rw [c2]; exact h3)] at h
    exact h
  · have h2 : ¬ V * a ≤ U * b := fun e => c ((pk_lLE b2 b1).mpr e)
    rw [if_pos (by rw [c1]; omega)] at h
    exact h
end
