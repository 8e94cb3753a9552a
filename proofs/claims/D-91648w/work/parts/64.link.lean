/-! ManyEyes' world and the world of single cells name the same classes -/
set_option maxRecDepth 100000
theorem kn_eq {s : State} {C : String} {T : u_T} {N : Nat} {c1 c2 : ClassId} {i1 i2 : Nat → Nat} (h1 : u_Kn s C T N c1 i1) (h2 : u_Kn s C T N c2 i2) : c1 = c2 ∧ ∀ k, k < N → i1 k = i2 k := by
  refine ⟨Option.some.inj (h1.2.1.symm.trans h2.2.1), fun k hk => ?_⟩
  obtain ⟨cf, kf, fi, f, e1, e2⟩ := h1.1 k hk
  obtain ⟨cf', kf', fi', f', e3, e4⟩ := h2.1 k hk
  have h := e1.symm.trans e3
  cases h
  rw [← e2, ← e4]
theorem t_OB_eq {o : Nat} {c1 c2 : ClassId} {N : Nat} {i1 i2 : Nat → Nat} {H : Heap} {V : Nat → Value} (h : t_OB o c1 N i1 H V) (e : c1 = c2 ∧ ∀ k, k < N → i1 k = i2 k) : t_OB o c2 N i2 H V := by
  obtain ⟨cell, q1, q2, q3, q4⟩ := h
  exact ⟨cell, q1, q2.trans e.1, q3, fun k hk => by rw [← e.2 k hk]; exact q4 k hk⟩
section LK
variable {s : State} {DC : va_G} {dA : Nat → ClassId} {Z : hZ} {H : Heap} {a : Nat}
theorem lk_now (hK : va_K DC ccl (cty dA) s) (hE : HE Z s) {fs : List Value} : va_at DC ccl (a, .inr (3, fs)) H ↔ va_at Z.D tcl (a, .inr (16, fs)) H := by
  have e := kn_eq (hK.1 3 (RX4, TX4, 6) rfl) (hE.1.1 16 (RX4, TX4, 6) rfl)
  constructor
  · rintro ⟨r, g1, h⟩
    cases Option.some.inj (g1.symm.trans (rfl : ccl[3]? = some (RX4, TX4, 6)))
    exact ⟨(RX4, TX4, 6), rfl, t_OB_eq h e⟩
  · rintro ⟨r, g1, h⟩
    cases Option.some.inj (g1.symm.trans (rfl : tcl[16]? = some (RX4, TX4, 6)))
    exact ⟨(RX4, TX4, 6), rfl, t_OB_eq h ⟨e.1.symm, fun k hk => (e.2 k hk).symm⟩⟩
theorem lk_lst (hK : va_K DC ccl (cty dA) s) (hE : HE Z s) {fs : List Value} : va_at DC ccl (a, .inr (4, fs)) H ↔ va_at Z.D tcl (a, .inr (14, fs)) H := by
  have e := kn_eq (hK.1 4 (RJ2, TJ2, 3) rfl) (hE.1.1 14 (RJ2, TJ2, 3) rfl)
  constructor
  · rintro ⟨r, g1, h⟩
    cases Option.some.inj (g1.symm.trans (rfl : ccl[4]? = some (RJ2, TJ2, 3)))
    exact ⟨(RJ2, TJ2, 3), rfl, t_OB_eq h e⟩
  · rintro ⟨r, g1, h⟩
    cases Option.some.inj (g1.symm.trans (rfl : tcl[14]? = some (RJ2, TJ2, 3)))
    exact ⟨(RJ2, TJ2, 3), rfl, t_OB_eq h ⟨e.1.symm, fun k hk => (e.2 k hk).symm⟩⟩
theorem lk_int (hK : va_K DC ccl (cty dA) s) (hE : HE Z s) : dA 0 = Z.d 3 := by
  have h1 := (hK.2 0 (dA 0, .int) rfl).2
  have h2 := (hE.1.2 3 (Z.d 3, .int) rfl).2
  exact Option.some.inj (h1.symm.trans h2)
theorem lk_long (hK : va_K DC ccl (cty dA) s) (hE : HE Z s) : dA 1 = Z.d 4 := by
  have h1 := (hK.2 1 (dA 1, .long) rfl).2
  have h2 := (hE.1.2 4 (Z.d 4, .long) rfl).2
  exact Option.some.inj (h1.symm.trans h2)
theorem lk_byte (hK : va_K DC ccl (cty dA) s) (hE : HE Z s) : dA 3 = Z.d 1 := by
  have h1 := (hK.2 3 (dA 3, .byte) rfl).2
  have h2 := (hE.1.2 1 (Z.d 1, .byte) rfl).2
  exact Option.some.inj (h1.symm.trans h2)
/-- out of ManyEyes' world: Now, its arrays -/
theorem lk_NowW (hK : va_K DC ccl (cty dA) s) (hE : HE Z s) {hC : Nat} {S : yS} (hb : Z.b ≤ hC) (hP : va_P DC ccl (cw dA hC S) H) : NowW Z (hC + 658) S H := by
  have h0 := hP 658 _ (cw_at (by decide))
  have h1 := hP 659 _ (cw_at (by decide))
  have h2 := hP 660 _ (cw_at (by decide))
  have h3 := hP 661 _ (cw_at (by decide))
  refine ⟨(lk_now hK hE).mp h0, ?_, ?_, ?_, by omega⟩
  · rw [← lk_int hK hE]; exact h1
  · rw [← lk_int hK hE]; exact h2
  · rw [← lk_long hK hE]; exact h3
end LK
