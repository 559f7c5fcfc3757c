/-! OPERATION: wish, the new P -/
set_option maxRecDepth 100000
section WP
variable {P : Nat → Nat → Int32} {k w : Nat}
theorem putW_ne {a : Nat} (h : a ≠ 311) : ∀ j, putW P k w j a = P a := by
  intro j
  induction j with
  | zero => rfl
  | succ j ih => rw [putW, wr_ne h, ih]
theorem putW_at {i : Nat} (hi : i < 6) : ∀ j, j ≤ 6 → putW P k w j 311 (6 * k + i) = if 5 - i < j then nI (dg w (5 - i)) else P 311 (6 * k + i) := by
  intro j
  induction j with
  | zero => intro _; rw [putW, if_neg (by omega)]
  | succ j ih =>
    intro hj
    rw [putW, wr_at, ih (by omega)]
    by_cases e : i = 5 - j
    · rw [if_pos (by omega), if_pos (by omega), show 5 - i = j by omega]
    · rw [if_neg (by omega)]
      by_cases e2 : 5 - i < j
      · rw [if_pos e2, if_pos (by omega)]
      · rw [if_neg e2, if_neg (by omega)]
theorem putW_o {q i : Nat} (hq : q ≠ k) (hi : i < 6) : ∀ j, j ≤ 6 → putW P k w j 311 (6 * q + i) = P 311 (6 * q + i) := by
  intro j
  induction j with
  | zero => intro _; rfl
  | succ j ih =>
    intro hj
    rw [putW, wr_at, if_neg (by omega), ih (by omega)]
theorem hp_put (j : Nat) : HP P (putW P k w j) := fun a x h => by
  rw [putW_ne (fun q => by subst q; simp [hp] at h)]
theorem HP.tr {P P' Q : Nat → Nat → Int32} (h : HP P P') (g : HP P' Q) : HP P Q := fun a x q => (g a x q).trans (h a x q)
theorem hp_312 {v : Int32} : HP P (wr P 312 k v) := HP.wr rfl
theorem VP_off (hV : VP P) : VP (wr P 312 k 0) := by
  obtain ⟨w1, w2, w3, w4, w5, w6, w7, w8⟩ := hV
  refine ⟨w1, w2, w3, fun m hm => ?_, w5, w6, w7, w8⟩
  by_cases e : m = k
  · subst e; exact Or.inl (wrs ..)
  · rw [wrk e]
    exact w4 m hm
theorem VP_put (hV : VP P) (h : wishS w 6 = 63) : VP (wr (putW P k w 6) 312 k 1) := by
  have e : ∀ a, a ≠ 311 → a ≠ 312 → wr (putW P k w 6) 312 k 1 a = P a := fun a h1 h2 => by rw [wr_ne h2, putW_ne h1]
  have hp : HP P (wr (putW P k w 6) 312 k 1) := (hp_put 6).tr hp_312
  obtain ⟨w1, w2, w3, w4, ⟨t1, t2, t3, t4⟩, ⟨p1, p2⟩, w7, w8⟩ := hV
  have et : tN (wr (putW P k w 6) 312 k 1) = tN P := by
    show (wr (putW P k w 6) 312 k 1 305 18).toNatClampNeg = _
    rw [e 305 (by decide) (by decide)]; rfl
  refine ⟨VP1_hp hp w1, VP2_hp hp w2, VPs_hp hp w3, fun m hm => ?_, ⟨by rw [et, e 305 (by decide) (by decide)]; exact t1, by rw [et]; exact t2, fun j hj => by rw [e 315 (by decide) (by decide)]; exact t3 j hj, fun j hj => by rw [e 316 (by decide) (by decide)]; exact t4 j hj⟩, ⟨fun b hb => by rw [e 328 (by decide) (by decide)]; exact p1 b hb, fun p b h1 h2 => by rw [e 330 (by decide) (by decide)]; exact p2 p b h1 h2⟩, by rw [e 305 (by decide) (by decide)]; exact w7, by rw [e 305 (by decide) (by decide)]; exact w8⟩
  by_cases q : m = k
  · subst q
    refine Or.inr ⟨wrs .., fun i => dg w (5 - i), fun i hi => ⟨(wishS_63 h (show 5 - i < 6 by omega)).1, ?_⟩, fun x hx => ?_⟩
    · rw [wr_ne (by decide), putW_at hi 6 (Nat.le_refl 6), if_pos (by omega)]
    · obtain ⟨j, hj, ej⟩ := wishS_all h hx
      exact ⟨5 - j, by omega, by show dg w (5 - (5 - j)) = x; rw [show 5 - (5 - j) = j by omega]; exact ej⟩
  · rw [wrk q, putW_ne (by decide)]
    rcases w4 m hm with z | ⟨z1, v, z2, z3⟩
    · exact Or.inl z
    · refine Or.inr ⟨z1, v, fun i hi => ⟨(z2 i hi).1, ?_⟩, z3⟩
      rw [wr_ne (by decide), putW_o q hi 6 (Nat.le_refl 6)]
      exact (z2 i hi).2
end WP
