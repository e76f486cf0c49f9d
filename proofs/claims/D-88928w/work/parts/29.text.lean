section
/-! the text of a failed cast is short: from the start's table of modules -/
theorem tx_found {vm : Vm} {n : String} {c : ClassId} {k : Class} (h : vm.findClass n = some c) (hk : vm.classes[c]? = some k) : k.name = n ∧ k.hidden = none ∧ k.loader = none := by
  obtain ⟨hlt, hp, -⟩ := Array.findIdx?_eq_some_iff_getElem.mp h
  have e : vm.classes[c] = k := by rw [Array.getElem?_eq_getElem hlt] at hk; exact Option.some.inj hk
  rw [e] at hp
  simp only [Bool.and_eq_true, beq_iff_eq, Option.isNone_iff_eq_none] at hp
  exact ⟨hp.1.1.1, hp.1.1.2, hp.2⟩
theorem tx_home {vm : Vm} {k : Class} (hm : (vm.modules.all fun m => m.loader.isSome || m.name == "java.base" || !(castPackages_1.any fun p => m.packages.contains p)) = true) (hp : packageOf k.name = "") (hl : k.loader = none) :
    vm.home k = "module java.base of loader 'bootstrap'" ∨ vm.home k = "unnamed module of loader 'bootstrap'" := by
  unfold Vm.home
  rw [hl]
  cases h : vm.moduleOf k with
  | none => exact Or.inr rfl
  | some m =>
    have hn : m.name = "java.base" := by
      unfold Vm.moduleOf at h
      split at h
      · have := List.find?_some h
        exact beq_iff_eq.mp this
      · have h1 := List.find?_some h
        have h2 := List.mem_of_find?_eq_some h
        have h3 := List.all_eq_true.mp hm m h2
        rw [hl, hp] at h1
        simp only [Bool.and_eq_true, beq_iff_eq] at h1
        simp only [castPackages_1, List.any_cons, h1.1, h1.2, Bool.true_or, Option.isSome_none, Bool.false_or, Bool.not_true, Bool.or_false, beq_iff_eq] at h3
        exact h3
    left
    simp only [hn]
    rfl
theorem tx_pack : ∀ C ∈ lcl, packageOf C = "" := by decide +kernel
def txHomes : List String := ["module java.base of loader 'bootstrap'", "unnamed module of loader 'bootstrap'"]
def txMsg (a b h : String) : String := "class " ++ dotted a ++ " cannot be cast to class " ++ dotted b ++ " (" ++ h ++ ")"
theorem tx_len : ∀ C ∈ lcl, (dotted C).toList.length ≤ 19 := by decide +kernel
theorem tx_hlen : ∀ h ∈ txHomes, h.toList.length ≤ 40 := by decide +kernel
theorem tx_ok {a b h : String} (ha : (dotted a).toList.length ≤ 19) (hb : (dotted b).toList.length ≤ 19) (hh : h.toList.length ≤ 150) : (txMsg a b h == notModelled) = false ∧ (stringBytes (stringToUtf16 (txMsg a b h))).size ≤ 1000 := by
  constructor
  · rw [beq_eq_false_iff_ne]
    intro e
    have h2 := congrArg String.toList e
    simp [txMsg, notModelled, String.toList_append] at h2
  · have b1 := stringBytes_size_le (stringToUtf16 (txMsg a b h))
    have b2 := utf16_size_le (txMsg a b h)
    have b3 : (txMsg a b h).toList.length = 6 + (dotted a).toList.length + 25 + (dotted b).toList.length + 2 + h.toList.length + 1 := by
      simp [txMsg, String.toList_append]; omega
    omega
theorem bm_of {s : State} (h : modulesRight_1 s = true) : BM s := by
  intro vm' hW C hC K hK c t ks kt h1 h2 h3 h4
  have hal := hW.alike
  obtain ⟨n1, i1, l1⟩ := tx_found (vm := vm') (by rw [hal.findClass]; exact h1) h3
  obtain ⟨n2, i2, l2⟩ := tx_found (vm := vm') (by rw [hal.findClass]; exact h2) h4
  have hm : (vm'.modules.all fun m => m.loader.isSome || m.name == "java.base" || !(castPackages_1.any fun p => m.packages.contains p)) = true := by
    rw [hal.1]; exact h
  have q1 : vm'.home ks ∈ txHomes := by
    rcases tx_home (k := ks) hm (by rw [n1]; exact tx_pack C hC) l1 with e | e <;> rw [e] <;> decide
  have q2 : vm'.home kt ∈ txHomes := by
    rcases tx_home (k := kt) hm (by rw [n2]; exact tx_pack K hK) l2 with e | e <;> rw [e] <;> decide
  have s1 : ks.shown = dotted C := by unfold Class.shown; rw [i1, n1]
  have s2 : kt.shown = dotted K := by unfold Class.shown; rw [i2, n2]
  have e1 := tx_len C hC
  have e2 := tx_len K hK
  have e3 := tx_hlen _ q1
  have e4 := tx_hlen _ q2
  unfold checkcast.message Vm.homes
  rw [s1, s2]
  split
  · exact tx_ok e1 e2 (h := dotted C ++ " and " ++ dotted K ++ " are in " ++ vm'.home ks) (by simp [String.toList_append]; omega)
  · exact tx_ok e1 e2 (h := dotted C ++ " is in " ++ vm'.home ks ++ "; " ++ dotted K ++ " is in " ++ vm'.home kt) (by simp [String.toList_append]; omega)
end
