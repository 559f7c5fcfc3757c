/-! OPERATION: wish, joined -/
set_option maxRecDepth 100000
section WJ
variable {d L n s : Nat} {D : Nat → Nat × Nat} {C M P : Nat → Nat → Int32} {R : Nat → Nat → Option Nat} {m : Mem} {xs : Nat → Int32} {F : Nat → Prop} {f : Nat → Nat}
theorem CI.wi {P' : Nat → Nat → Int32} {R' : Nat → Nat → Option Nat} (h : CI trT xs P F f L D C R n) (hp : HP P P') (hV : VP P') (hR : ∀ a, a ≠ 293 → R' a = R a) (ho : CIo xs P' F L D C R') : CI trT xs P' F f L D C R' n := by
  obtain ⟨a1, a2, a3, a4, a5, a6⟩ := h
  have b2 := CIa_hp hp a2
  have b4 := CIg_hp hp a4
  obtain ⟨c1, c2, c3, c4, c5, c6, c7, c8, c9⟩ := b2
  have hkp : Kp F L D C R D C R' := fun a ha => by
    have hr := c7 a ha
    have e := hR a (by omega)
    exact ⟨rfl, rfl, by rw [rf_hi hr.1, rf_hi hr.1, e], e⟩
  have e292 : R' 292 = R 292 := hR _ (by decide)
  refine ⟨hV, ⟨c1, c2, c3, c4.fr (Nat.le_refl n) (fun _ _ => rfl) c8 rfl (by rw [hR 282 (by decide)]) (fun _ _ => rfl) (fun e he => hR e ?_), c5, c6, c7, c8, fun r hr => (c9 r hr).kp hkp (Nat.le_refl n) (fun _ h => h) (by rw [hR 289 (by decide)])⟩, ho, ⟨fun r hr => ?_, fun r q g x hr hq hne e1 e2 => ?_⟩, by rw [sN_hp hp]; exact a5, fun e he => ?_⟩
  · obtain ⟨⟨o, c, e2, cap, e1, e3, e5, e4⟩, _⟩ := c4
    rw [e1] at he
    cases he
    rcases e4 with ⟨e4, _⟩ | ⟨e4, e6, e7, e8⟩ <;> omega
  · rcases b4.1 r hr with z | ⟨g, z1, z2, z3⟩
    · exact Or.inl (by rw [e292]; exact z)
    · have e2 : R' g = R g := hR g (by have := z2.2.1; omega)
      refine Or.inr ⟨g, by rw [e292]; exact z1, z2.kp (Nat.le_refl n) (fun _ h => h) (fun _ h => Or.inl h) (fun _ _ => rfl) (fun a ha => rfl) rfl rfl e2, ?_⟩
      obtain ⟨t, x1, x2⟩ := z3
      exact ⟨t, by rw [e2]; exact x1, x2⟩
  · rw [e292] at e1 e2
    rcases b4.1 r hr with z | ⟨g', z1, z2, _⟩
    · rw [z] at e1; cases e1
    rcases b4.1 q hq with z | ⟨g'', z3, z4, _⟩
    · rw [z] at e2; cases e2
    rw [z1] at e1; cases e1
    rw [z3] at e2; cases e2
    rw [hR g (by have := z2.2.1; omega), hR x (by have := z4.2.1; omega)]
    exact b4.2 r q g x hr hq hne z1 z3
  · rw [hR 282 (by decide)] at he
    refine ⟨(a6 e he).1, fun r g hr hg => ?_⟩
    rw [e292] at hg
    have := (a6 e he).2 r g hr hg
    rcases b4.1 r hr with z | ⟨g', z1, z2, _⟩
    · rw [z] at hg; cases hg
    rw [z1] at hg; cases hg
    rw [hR g (by have := z2.2.1; omega)]
    exact this
/-- a Wish and its ranks made, not yet put anywhere -/
theorem CI.new2 {C3 : Nat → Nat → Int32} {R3 : Nat → Nat → Option Nat} {z1 z2 : Nat × Nat} (h : CI trT xs P F f L D C R n) (hC : ∀ b, b < n → C3 b = C b) (hR : ∀ b, b < n → R3 b = R b) : CI trT xs P (fun x => F x ∨ x = n ∨ x = n + 1) f L (fu (fu D n z1) (n + 1) z2) C3 R3 (n + 2) := by
  have hA := h.2.1
  have b7 := hA.2.2.2.2.2.2.1
  have b8 := hA.2.2.2.2.2.2.2.1
  have hq : Qs P F L D C R n (fun x => F x ∨ x = n ∨ x = n + 1) (fu (fu D n z1) (n + 1) z2) C3 R3 (n + 2) := by
    refine ⟨by omega, fun _ h => Or.inl h, fun a ha => ?_, fun a ha => ?_, fun a k h1 _ => by rw [hC a (by omega)], fun a h1 _ _ => hR a h1, fun a ha => hC a (b7 a ha).2, fun a ha => by rw [kf_up (by omega), kf_up (by omega)], ?_⟩
    · rcases ha with q | q | q
      · exact Or.inl q
      · exact Or.inr (by omega)
      · exact Or.inr (by omega)
    · rcases ha with q | q | q
      · have := b7 a q; omega
      · omega
      · omega
    · rcases hA.2.2.1 with q | q
      · exact Or.inl (by rw [hC 281 (by omega)]; exact q)
      · exact Or.inr (q.fr (by rw [hC 281 (by omega)]) (hC _ (by omega)) (hC _ (by omega)) (hC _ (by omega)))
  have h292 : R3 292 = R 292 := hR _ (by omega)
  refine h.qs hq (h.2.2.2.1.same hq h292 (fun a _ h1 => hC a h1)) (fun e he r g hr hg => ?_)
  rw [h292] at hg
  have := (h.2.2.2.2.2 e he).2 r g hr hg
  rcases h.2.2.2.1.1 r hr with z | ⟨g', z1, z2, _⟩
  · rw [z] at hg; cases hg
  rw [z1] at hg; cases hg
  rw [hR g z2.2.2.1]
  exact this
end WJ
