/-! THE START: the invariant holds -/
set_option maxRecDepth 1000000
section IV
variable (L : Nat) (xs : Nat → Int32)
theorem s_pe {a k : Nat} (h : per a k = true) : pr (iChain xs) a k = iChain xs a k := (pr_rd rfl h).symm
theorem r_292 (r : Nat) : rChain 292 r = none := by rfl
theorem r_293 (r : Nat) : rChain 293 r = none := by rfl
theorem r_289 (r : Nat) : rChain 289 r = none := by rfl
theorem r_282 : rChain 282 1 = some 1 := by rfl
theorem i0_box : (List.range 128).map (fun v => I0 xs (149 + v) 0) = (List.range 128).map (fun v => nI v) := rfl
theorem ci0 : CI trT xs (pr (iChain xs)) (fun _ => False) (fun _ => 0) L (kChain L) (iChain xs) rChain 337 := by
  obtain ⟨f1, f2, f3, f4, f5, f6, f7⟩ := s_5 xs
  obtain ⟨g1, g2, g3, g4, g5, g6, g7, g8, g9⟩ := s_1 xs
  have p1 : pr (iChain xs) 305 1 = 0 := (s_pe xs rfl).trans f1
  have p2 : pr (iChain xs) 305 2 = 0 := (s_pe xs rfl).trans f2
  have p3 : pr (iChain xs) 305 8 = 999 := (s_pe xs rfl).trans f3
  have p4 : pr (iChain xs) 305 9 = 999 := (s_pe xs rfl).trans f4
  have p5 : pr (iChain xs) 305 18 = 0 := (s_pe xs rfl).trans f5
  have p6 : pr (iChain xs) 305 33 = 0 := (s_pe xs rfl).trans f6
  have p7 : pr (iChain xs) 305 34 = -1 := (s_pe xs rfl).trans f7
  have q312 : ∀ k, pr (iChain xs) 312 k = 0 := fun k => (s_pe xs rfl).trans (s_a xs k).2.2.1
  have q315 : ∀ k, pr (iChain xs) 315 k = 0 := fun k => (s_pe xs rfl).trans (s_a xs k).2.2.2.1
  have q317 : ∀ k, pr (iChain xs) 317 k = 0 := fun k => (s_pe xs rfl).trans (s_a xs k).2.2.2.2.1
  have q328 : ∀ k, pr (iChain xs) 328 k = 0 := fun k => (s_pe xs rfl).trans (s_a xs k).2.2.2.2.2.1
  have q330 : ∀ k, pr (iChain xs) 330 k = 0 := fun k => (s_pe xs rfl).trans (s_a xs k).2.2.2.2.2.2
  have m0 : mN (pr (iChain xs)) = 0 := by
    show (pr (iChain xs) 305 1).toNatClampNeg = 0
    rw [p1]; rfl
  have n0 : sN (pr (iChain xs)) = 0 := by
    show (pr (iChain xs) 305 2).toNatClampNeg = 0
    rw [p2]; rfl
  have t0 : tN (pr (iChain xs)) = 0 := by
    show (pr (iChain xs) 305 18).toNatClampNeg = 0
    rw [p5]; rfl
  have c0 : ∀ r, cmy (pr (iChain xs)) r = 0 := fun r => by
    show (pr (iChain xs) 317 r).toNatClampNeg = 0
    rw [q317]; rfl
  have z0 : (0 : Int32) = nI 0 := rfl
  have hV1 : VP1 (pr (iChain xs)) := by
    unfold VP1
    rw [m0, n0, p1, p2]
    exact ⟨z0, by decide, z0, by decide⟩
  have hV : VP (pr (iChain xs)) := by
    refine ⟨hV1, fun r hr => ?_, ⟨fun i hi => ?_, fun i hi => ?_, fun i hi => ?_, fun i hi => ?_⟩, fun m hm => Or.inl (q312 m), ⟨?_, ?_, fun k hk => ⟨0, by decide, (q315 k).trans z0⟩, fun k hk => ?_⟩, ⟨fun b hb => ⟨0, by decide, (q328 b).trans z0⟩, fun p b hp hb => ⟨0, by decide, (q330 _).trans z0⟩⟩, ⟨999, by decide, p3⟩, ⟨999, by decide, p4⟩⟩
    · rw [c0, q317]
      exact ⟨z0, by decide, Or.inl rfl⟩
    · rw [n0] at hi; omega
    · rw [n0] at hi; omega
    · rw [n0] at hi; omega
    · rw [n0] at hi; omega
    · rw [t0, p5]; exact z0
    · rw [t0]; decide
    · exact (s_pe xs rfl).trans (range_pt (s_w xs) hk)
  have hl0 : ltS (pr (iChain xs)) = 0 := if_pos n0
  refine ⟨hV, ⟨hV1, ⟨g1.trans p1.symm, g3.trans p3.symm, g4.trans p4.symm⟩, Or.inl g5, ⟨⟨⟨rfl, rfl, rfl⟩, ?_, 1, 0, r_282, by rw [n0]; exact Nat.le_refl 0, fun i hi => ?_, Or.inl ⟨rfl, rfl⟩⟩, fun i hi => ?_⟩, fun i hi => ?_, fun v hv => ?_, fun a h => h.elim, Nat.le_refl _, fun r hr => Or.inl ⟨r_289 r, c0 r⟩⟩,
    ⟨fun a ha => s_lo xs ha, g2.trans hl0.symm, g6.trans p5.symm, g7.trans p6.symm, g8.trans p7.symm, fun k hk => ?_, fun m hm => Or.inl ⟨r_293 m, q312 m⟩, fun b hb => ((s_a xs b).2.1).trans (q328 b).symm, fun p b hp hb => ?_⟩,
    ⟨fun r hr => Or.inl (r_292 r), fun r q g h hr hq hne e1 e2 => ?_⟩, fun i hi => ?_, fun e he => ⟨fun h => h, fun r g hr e => ?_⟩⟩
  · rw [n0]; exact g9.trans z0
  · rw [n0] at hi; omega
  · rw [n0] at hi; omega
  · rw [n0] at hi; omega
  · rw [s_lo xs (by omega)]; exact range_pt (i0_box xs) hv
  · rw [q315, (s_a xs k).1]; rfl
  · rw [q330]
    obtain ⟨v0, v1, v2, v3, v4, v5, v6, v7⟩ := s_v xs b
    match p, hp with
    | 0, _ => exact v0
    | 1, _ => exact v1
    | 2, _ => exact v2
    | 3, _ => exact v3
    | 4, _ => exact v4
    | 5, _ => exact v5
    | 6, _ => exact v6
    | 7, _ => exact v7
  · rw [r_292] at e1; cases e1
  · rw [n0] at hi; omega
  · rw [r_292] at e; cases e
theorem inv_0 : InvR L 0 (mm L (kChain L) (mB L xs).2.1 rChain 337 (mB L xs).2.2.2.2) := by
  refine ⟨xs, pr (iChain xs), fun _ => False, fun _ => 0, kChain L, iChain xs, iChain xs, rChain, 337, (mB L xs).2.2.2.2, ?_, rfl, ci0 L xs, Nat.le_refl _, mB_s L xs⟩
  rw [mB_Ic]
  show (kf L (kChain L), iChain xs, rf rChain, 337, (mB L xs).2.2.2.2) = (kf L (kChain L), j2 (iChain xs) (iChain xs), rf rChain, 337, (mB L xs).2.2.2.2)
  rw [j2_same]
theorem inv_up {r : Nat} {m : Mem} (h : InvR L r m) : InvR L (r + 1) m := by
  obtain ⟨xs, P, F, f, D, C, M, R, n, s, h1, h2, h3, h4, h5⟩ := h
  exact ⟨xs, P, F, f, D, C, M, R, n, s, h1, h2, h3, Nat.le_trans h4 (Nat.add_le_add_left (Nat.mul_le_mul_left _ (Nat.le_succ r)) _), Nat.le_trans h5 (Nat.add_le_add_left (Nat.mul_le_mul_left _ (Nat.le_succ r)) _)⟩
theorem inv_64 {m : Mem} (h : InvR L 64 m) : m.2.2.2.1 ≤ 281 + 1072296 ∧ m.2.2.2.2 ≤ 5884593 := by
  obtain ⟨xs, P, F, f, D, C, M, R, n, s, h1, h2, h3, h4, h5⟩ := h
  subst h1
  exact ⟨Nat.le_trans (show n ≤ 337 + 16000 * 64 from h4) (by decide), Nat.le_trans (show s ≤ 72000 + 90000 * 64 from h5) (by decide)⟩
end IV
