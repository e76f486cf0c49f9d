section
/-! a sheet's cell -/
def ixText (i : Int32) (n : Nat) : String := "Index " ++ toString i ++ " out of bounds for length " ++ toString n
theorem ix_bytes (i : Int32) {n : Nat} (h : n < 2 ^ 31) : (stringBytes (stringToUtf16 (ixText i n))).size ≤ 212 := index_text_bytes i h
theorem ix_modelled (i : Int32) (n : Nat) : (ixText i n == notModelled) = false := index_text_modelled i n
section
variable {p : Program} {l : Launch} {e : Env} {R : Room} {s : State} {m : MethodId} {args : Array Value} {below : List Frame} {meth : Method} {c : Code} {H : Heap} {locs : List Loc} {cells slots : Nat} {Q : State → Prop}
variable {cc : ByteArray} {nL : Nat} {own : String} {ret : Option FieldType} {D : va_G} {d : Nat → ClassId} {E : State → Prop} {A : Nat → Prop} {st : CS} {pc : Nat} {ls : Array Slot} {rest : List Value} {mc ms : Nat} {o : Nat} {ad : Nat → Nat}
theorem x0_cellS (F : Fx p s m args meth c cc nL own ret D d E A) (C : Cx D (wX o ad d) A s st H locs) {a : Nat} (ha : okC st a 0) : ∃ cell : Cell, H[a]? = some cell ∧ s.isArrayOf cell .int ∧ cell.slots.size = (sE st a).2.1 := by
  obtain ⟨hx, hb, hr, hml, hown, hts, hlk, hA, hK, hE⟩ := F
  obtain ⟨qk, hq⟩ := pool_at (o := o) (ad := ad) (d := d) ha.1
  rw [pE_0 ha.2] at hq
  exact ⟨_, C.1 qk _ hq, (hK.1.2 0 _ rfl).1 _ _, by simp [vp_cell, arrV]⟩
/-- iaload beyond a sheet's end raises -/
theorem x0_outS (F : Fx p s m args meth c cc nL own ret D d E A) (C : Cx D (wX o ad d) A s st H locs) {a : Nat} {i : Int32} (ha : okC st a 0) (hin : ¬ vp_in i (sE st a).2.1) (hdg : decode cc pc = .ok (.iaload, 1)) (T : State) (hT : T.heap = H) (X : Stand p l e R s m args below meth c T locs cells slots) (target : State)
    (h : Steps p.tables e below ((T.setTop (F0 m pc ls rest)).pushFrame (.throwNew "java/lang/ArrayIndexOutOfBoundsException" (some (ixText i (sE st a).2.1)) none)) target) : Steps p.tables e below (T.setTop (F0 m pc ls (.int i :: .ref a :: rest))) target := by
  obtain ⟨cell, h1, h2, h3⟩ := x0_cellS F C ha
  rw [← h3] at h
  exact X.ialoadOut F.1 (by rw [hT]; exact h1) h2 (by rw [h3]; exact Classical.not_not.mp hin) (g := F0 m pc ls (.int i :: .ref a :: rest)) rfl rfl (by rw [F.2.1]; exact hdg) target h
end
end
