section
/-! NUMBERS: the greatest common divisor, sums of fractions -/
theorem gcd_loop0 {post : Int64 → CS → Prop} {st : CS} : ∀ (b a : Nat), a < 2 ^ 63 → b < 2 ^ 63 → post (lN (Nat.gcd a b)) st → ∃ n, wX0_gcd_9 post n (lN a) (lN b) st := by
  intro b
  induction b using Nat.strongRecOn with
  | ind b ih =>
    intro a ha hb h
    by_cases h0 : b = 0
    · subst h0
      refine ⟨1, ?_⟩
      unfold wX0_gcd_9
      exact ⟨fun _ => by simpa using h, fun c => absurd rfl c⟩
    · have hlt : a % b < b := Nat.mod_lt _ (by omega)
      have hg : Nat.gcd b (a % b) = Nat.gcd a b := by rw [Nat.gcd_comm b, ← Nat.gcd_rec, Nat.gcd_comm]
      obtain ⟨n, hn⟩ := ih (a % b) hlt b hb (by omega) (by rw [hg]; exact h)
      refine ⟨n + 1, ?_⟩
      unfold wX0_gcd_9
      have hne : ¬ lN b = 0 := fun e => h0 ((pk_lEQ hb (by decide)).mp (e.trans (by rfl : (0 : Int64) = lN 0)))
      refine ⟨fun c => absurd c hne, fun _ => ⟨hne, fun x ex => ?_⟩⟩
      rw [ex, pk_lRem ha (by omega) hb]
      exact hn
theorem gcd_loop1 {post : Int64 → CS → Prop} {st : CS} : ∀ (b a : Nat), a < 2 ^ 63 → b < 2 ^ 63 → post (lN (Nat.gcd a b)) st → ∃ n, wX1_divisor_17 post n (lN a) (lN b) st := by
  intro b
  induction b using Nat.strongRecOn with
  | ind b ih =>
    intro a ha hb h
    by_cases h0 : b = 0
    · subst h0
      refine ⟨1, ?_⟩
      unfold wX1_divisor_17
      exact ⟨fun _ => by simpa using h, fun c => absurd rfl c⟩
    · have hlt : a % b < b := Nat.mod_lt _ (by omega)
      have hg : Nat.gcd b (a % b) = Nat.gcd a b := by rw [Nat.gcd_comm b, ← Nat.gcd_rec, Nat.gcd_comm]
      obtain ⟨n, hn⟩ := ih (a % b) hlt b hb (by omega) (by rw [hg]; exact h)
      refine ⟨n + 1, ?_⟩
      unfold wX1_divisor_17
      have hne : ¬ lN b = 0 := fun e => h0 ((pk_lEQ hb (by decide)).mp (e.trans (by rfl : (0 : Int64) = lN 0)))
      refine ⟨fun c => absurd c hne, fun _ => ⟨hne, fun x ex => ?_⟩⟩
      rw [ex, pk_lRem ha (by omega) hb]
      exact hn
/-- an Int64 by its number -/
def lZ (z : Int) : Int64 := Int64.ofInt z
theorem lZ_toInt {z : Int} (h1 : -2 ^ 63 ≤ z) (h2 : z < 2 ^ 63) : (lZ z).toInt = z := by
  unfold lZ
  exact Int64.toInt_ofInt_of_le h1 h2
theorem lZ_of (x : Int64) : x = lZ x.toInt := by
  unfold lZ
  rw [Int64.ofInt_toInt]
theorem lZ_nat (n : Nat) : lZ (n : Int) = lN n := by
  unfold lZ lN
  rfl
theorem lZ_inj {a b : Int64} (h : a.toInt = b.toInt) : a = b := Int64.toInt_inj.mp h
theorem l_abs {x : Int64} (h : -2 ^ 63 < x.toInt) : (if 0 < x then x else -x) = lN x.toInt.natAbs := by
  have hb := x.toInt_lt
  have hl := x.le_toInt
  apply lZ_inj
  have hn : x.toInt.natAbs < 2 ^ 63 := by omega
  rw [pk_lT hn]
  by_cases c : 0 < x
  · rw [if_pos c]
    have : 0 < x.toInt := by simpa [Int64.lt_iff_toInt_lt] using c
    omega
  · rw [if_neg c]
    have h0 : ¬ 0 < x.toInt := by simpa [Int64.lt_iff_toInt_lt] using c
    rw [Int64.toInt_neg, Int.bmod_eq_of_le (by omega) (by omega)]
    omega
theorem gcd0 {post : Int64 → CS → Prop} {st : CS} {x y : Int64} (hx : -2 ^ 63 < x.toInt) (hy : 0 ≤ y.toInt) (h : post (lN (Int.gcd x.toInt y.toInt)) st) : wpX0_gcd post st x y := by
  unfold wpX0_gcd
  intro x4 e4
  rw [l_abs hx] at e4
  have hb := y.toInt_lt
  have hbx := x.toInt_lt
  have hlx := x.le_toInt
  have ey : y = lN y.toInt.natAbs := by
    apply lZ_inj
    rw [pk_lT (by omega)]
    omega
  rw [e4, ey]
  refine gcd_loop0 _ _ (by omega) (by omega) ?_
  exact h
theorem gcd1 {post : Int64 → CS → Prop} {st : CS} {x y : Int64} (hx : -2 ^ 63 < x.toInt) (hy : 0 ≤ y.toInt) (h : post (lN (Int.gcd x.toInt y.toInt)) st) : wpX1_divisor post st x y := by
  unfold wpX1_divisor wX1_divisor_12
  have hb := y.toInt_lt
  have hbx := x.toInt_lt
  have hlx := x.le_toInt
  have ey : y = lN y.toInt.natAbs := by
    apply lZ_inj
    rw [pk_lT (by omega)]
    omega
  have key := gcd_loop1 (post := post) (st := st) y.toInt.natAbs x.toInt.natAbs (by omega) (by omega) h
  refine ⟨fun c => ?_, fun c => ?_⟩
  · have h0 : 0 ≤ x.toInt := by simpa [Int64.le_iff_toInt_le] using c
    have ex : x = lN x.toInt.natAbs := by
      apply lZ_inj
      rw [pk_lT (by omega)]
      omega
    rw [ex, ey]
    rw [← ex, ← ey]
    rw [← ey, ← ex] at key
    exact key
  · have h0 : ¬ 0 ≤ x.toInt := by simpa [Int64.le_iff_toInt_le] using c
    have ex : -x = lN x.toInt.natAbs := by
      apply lZ_inj
      rw [pk_lT (by omega), Int64.toInt_neg, Int.bmod_eq_of_le (by omega) (by omega)]
      omega
    rw [← ey, ← ex] at key
    exact key
end
