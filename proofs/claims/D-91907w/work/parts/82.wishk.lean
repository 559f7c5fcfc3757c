/-! OPERATION: wish, the component -/
set_option maxRecDepth 100000
section WK
variable {d L n s : Nat} {D : Nat → Nat × Nat} {C M P : Nat → Nat → Int32} {R : Nat → Nat → Option Nat} {m : Mem} {xs : Nat → Int32} {F : Nat → Prop} {f : Nat → Nat} {k w : Nat}
theorem WiR.ne {P' : Nat → Nat → Int32} {R' : Nat → Nat → Option Nat} {q : Nat} (h : WiR P F L D C R q) (hF : ∀ a, F a → 337 ≤ a) (hR : ∀ a, a ≠ 293 → R' a = R a) (h1 : R' 293 q = R 293 q) (h2 : P' 312 q = P 312 q) (h3 : ∀ i, i < 6 → P' 311 (6 * q + i) = P 311 (6 * q + i)) : WiR P' F L D C R' q := by
  rcases h with ⟨z1, z2⟩ | ⟨w, a, z1, z2, z4, z5, z6, z7, z8, z9⟩
  · exact Or.inl ⟨h1.trans z1, h2.trans z2⟩
  · exact Or.inr ⟨w, a, h1.trans z1, h2.trans z2, z4, z5, z6, z7, by rw [hR w (by have := hF w z4; omega)]; exact z8, fun i x hi hx e => z9 i x hi hx (by rw [← h3 i hi]; exact e)⟩
theorem CI.off (h : CI trT xs P F f L D C R n) : CI trT xs (wr P 312 k 0) F f L D C (wr R 293 k none) n := by
  refine h.wi hp_312 (VP_off h.1) (fun a ha => wr_ne ha) ?_
  obtain ⟨o1, o2, o3, o4, o5, o6, o7, o8, o9⟩ := h.2.2.1
  have hF := h.2.1.2.2.2.2.2.2.1
  refine ⟨o1, o2, o3, o4, o5, o6, fun q hq => ?_, o8, o9⟩
  by_cases e : q = k
  · subst e
    exact Or.inl ⟨wrs .., wrs ..⟩
  · exact (o7 q hq).ne (fun a ha => (hF a ha).1) (fun a ha => wr_ne ha) (wrk e) (wrk e) (fun i hi => rfl)
theorem CI.put {x r : Nat} (h : CI trT xs P F f L D C R n) (h6 : wishS w 6 = 63) (hx : F x) (hr : F r) (h1 : Ob L D x 19 0) (h2 : Ob L D r 100 6) (h3 : R x 0 = some r) (h4 : ∀ j, j < 6 → C r (dg w j) = nI (5 - j)) : CI trT xs (wr (putW P k w 6) 312 k 1) F f L D C (wr R 293 k (some x)) n := by
  have e : ∀ a, a ≠ 311 → a ≠ 312 → wr (putW P k w 6) 312 k 1 a = P a := fun a q1 q2 => by rw [wr_ne q2, putW_ne q1]
  have hp : HP P (wr (putW P k w 6) 312 k 1) := (hp_put 6).tr hp_312
  refine h.wi hp (VP_put h.1 h6) (fun a ha => wr_ne ha) ?_
  obtain ⟨o1, o2, o3, o4, o5, o6, o7, o8, o9⟩ := h.2.2.1
  have hF := h.2.1.2.2.2.2.2.2.1
  have el : ltS (wr (putW P k w 6) 312 k 1) = ltS P := by
    unfold ltS
    rw [sN_hp hp, e 310 (by decide) (by decide)]
  refine ⟨o1, o2.trans el.symm, by rw [e 305 (by decide) (by decide)]; exact o3, by rw [e 305 (by decide) (by decide)]; exact o4, by rw [e 305 (by decide) (by decide)]; exact o5, fun j hj => by rw [e 315 (by decide) (by decide)]; exact o6 j hj, fun q hq => ?_, fun b hb => by rw [e 328 (by decide) (by decide)]; exact o8 b hb, fun p b hp hb => by rw [e 330 (by decide) (by decide)]; exact o9 p b hp hb⟩
  by_cases z : q = k
  · subst z
    refine Or.inr ⟨x, r, wrs .., wrs .., hx, hr, h1, h2, by rw [wr_ne (by have := hF x hx; omega)]; exact h3, fun i y hi hy ey => ?_⟩
    rw [wr_ne (by decide), putW_at hi 6 (Nat.le_refl 6), if_pos (by omega)] at ey
    have hd := (wishS_63 h6 (show 5 - i < 6 by omega)).1
    have := (nI_eq (a := dg w (5 - i)) (b := y) (by omega) (by omega)).mp ey
    rw [← this, h4 (5 - i) (by omega), show 5 - (5 - i) = i by omega]
  · exact (o7 q hq).ne (fun a ha => (hF a ha).1) (fun a ha => wr_ne ha) (wrk z) (by rw [wrk z, putW_ne (by decide)]) (fun i hi => by rw [wr_ne (by decide), putW_o z hi 6 (Nat.le_refl 6)])
end WK
