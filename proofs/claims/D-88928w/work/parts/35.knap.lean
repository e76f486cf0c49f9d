section
/-! THE KNAPSACK -/
def PQ : Nat → (Nat → Rat) → Rat
  | 0, _ => 1
  | n + 1, f => PQ n f * f n
def lc (c : Nat) : Nat → Nat
  | 0 => 1
  | n + 1 => if n + 1 < c then 1 else Nat.lcm (lc c n) (n + 1)
theorem lc_pos (c n : Nat) : 0 < lc c n := by
  induction n with
  | zero => exact Nat.one_pos
  | succ n ih =>
    simp only [lc]
    split
    · exact Nat.one_pos
    · exact Nat.lcm_pos ih (by omega)
theorem lc_dvd {c n : Nat} : ∀ {N : Nat}, c ≤ n → 1 ≤ n → n ≤ N → n ∣ lc c N
  | 0, _, h1, h2 => by omega
  | N + 1, h0, h1, h2 => by
    simp only [lc]
    rw [if_neg (by omega)]
    by_cases e : n = N + 1
    · subst e; exact Nat.dvd_lcm_right _ _
    · exact Nat.dvd_trans (lc_dvd h0 h1 (by omega)) (Nat.dvd_lcm_left _ _)
def mx1 (c : Nat) : Nat := if c = 0 then 1 else c
/-- one entry of the table: a person of weight w with N lines, of which c always -/
def okE1 (R : Nat) (B : List Nat) (N c w : Nat) : Bool := (List.range B.length).all fun x => if x + w < B.length then decide (lc c N * (mx1 c * (2 + R) + (N - mx1 c)) * B.getD x 0 ≤ B.getD (x + w) 0 * (mx1 c * (2 + R))) else true
def okB (R : Nat) (B : List Nat) : Bool := (List.range 24).all fun N => (List.range (N + 1)).all fun c => okE1 R B N c (2 * N - c) && (if c = 0 ∧ N ≠ 0 then okE1 R B N c (2 * N - 2) else true)
def B5 : List Nat := [1, 1, 3, 3, 8, 13, 24, 66, 95, 222, 465, 912, 1395, 2808, 4338, 29983, 31020, 89949, 93060, 404486, 420420, 1213458, 1978869, 4402320, 6656226, 22558320, 27344496, 256978800, 262723032, 770936400, 898976006, 2055830400, 3340724400, 6167491200, 16960600800, 24412986000, 57049293600, 119495142000, 234364665600, 358485426000, 721596470400, 1114774034400, 7704995360400, 7971482376000, 23114986081200, 26953869162755, 103944326896800, 108039027096000, 311832980690400]
def B8 : List Nat := [1, 1, 3, 3, 8, 13, 22, 64, 84, 219, 452, 891, 1355, 2722, 4109, 29304, 30030, 87912, 90090, 391248, 402402, 1173744, 1875456, 4306848, 6417576, 22139712, 26109864, 249722928, 253743891, 749168784, 858724416, 1997783424, 3246398064, 5766092640, 15982267392, 20976725952, 54689321232, 112874763456, 222503128848, 338374567440, 679745810016, 1026111511152, 7317880682112, 7499179527840, 21953642046336, 25164060286464, 97703596134144, 100489005673056, 293110788402432]
set_option maxRecDepth 100000 in
theorem okB5 : okB 5 B5 = true := by decide +kernel
set_option maxRecDepth 100000 in
theorem okB8 : okB 8 B8 = true := by decide +kernel
end
