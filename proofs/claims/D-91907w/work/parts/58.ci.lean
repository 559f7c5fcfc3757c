/-! THE INVARIANT of DivisionHall's side; what a question keeps; game(r) -/
set_option maxRecDepth 100000
/-- P as it may be -/
def VPs (P : Nat → Nat → Int32) : Prop := (∀ i, i < sN P → P 309 i = -1 ∨ ∃ b, b < 6 ∧ P 309 i = nI b) ∧ (∀ i, i < sN P → ∃ w, w < 100 ∧ P 308 i = nI w) ∧ (∀ i, i < sN P → ∃ w, w < 1000 ∧ P 310 i = nI w) ∧ (∀ i, i + 1 < sN P → P 310 i ≤ P 310 (i + 1))
/-- a wish: an order of the six; rank k of x -/
def VPw (P : Nat → Nat → Int32) : Prop := ∀ m, m < 10 → P 312 m = 0 ∨ (P 312 m = 1 ∧ ∃ w : Nat → Nat, (∀ k, k < 6 → w k < 6 ∧ P 311 (6 * m + k) = nI (w k)) ∧ ∀ x, x < 6 → ∃ k, k < 6 ∧ w k = x)
def tN (P : Nat → Nat → Int32) : Nat := (P 305 18).toNatClampNeg
def wds : List Nat := [32, 104, 101, 97, 100, 115, 32, 119, 101, 105, 103, 104, 116, 32, 109, 101, 109, 98, 101, 114, 115, 32, 97, 108, 108, 32, 111, 102, 32, 104, 97, 115, 32, 111, 114, 32, 97, 110, 100, 32, 110, 111, 116, 32]
def VPt (P : Nat → Nat → Int32) : Prop := P 305 18 = nI (tN P) ∧ tN P ≤ 400 ∧ (∀ k, k < 400 → ∃ b, b < 256 ∧ P 315 k = nI b) ∧ ∀ k, k < 44 → P 316 k = nI (wds.getD k 0)
def VPp (P : Nat → Nat → Int32) : Prop := (∀ b, b < 6 → ∃ x, x < 100 ∧ P 328 b = nI x) ∧ ∀ p b, p < 8 → b < 6 → ∃ x, x < 100 ∧ P 330 (6 * p + b) = nI x
def VP (P : Nat → Nat → Int32) : Prop := VP1 P ∧ VP2 P ∧ VPs P ∧ VPw P ∧ VPt P ∧ VPp P ∧ (∃ x, x < 1000 ∧ P 305 8 = nI x) ∧ ∃ x, x < 1000 ∧ P 305 9 = nI x
def ltS (P : Nat → Nat → Int32) : Int32 := if sN P = 0 then 0 else P 310 (sN P - 1)
/-- a wish of DivisionHall -/
def WiR (P : Nat → Nat → Int32) (F : Nat → Prop) (L : Nat) (D : Nat → Nat × Nat) (C : Nat → Nat → Int32) (R : Nat → Nat → Option Nat) (m : Nat) : Prop :=
  (R 293 m = none ∧ P 312 m = 0) ∨ ∃ w a, R 293 m = some w ∧ P 312 m = 1 ∧ F w ∧ F a ∧ Ob L D w 19 0 ∧ Ob L D a 100 6 ∧ R w 0 = some a ∧ ∀ k x, k < 6 → x < 6 → P 311 (6 * m + k) = nI x → C a x = nI k
/-- what lies in fixed cells, and wishes -/
def CIo (xs : Nat → Int32) (P : Nat → Nat → Int32) (F : Nat → Prop) (L : Nat) (D : Nat → Nat × Nat) (C : Nat → Nat → Int32) (R : Nat → Nat → Option Nat) : Prop :=
  (∀ a, a < 281 → C a = I0 xs a) ∧ C 281 4 = ltS P ∧ C 281 10 = P 305 18 ∧ C 281 11 = P 305 33 ∧ C 281 12 = P 305 34 ∧ (∀ k, k < 400 → C 290 k = (P 315 k).toInt8.toInt32) ∧ (∀ m, m < 10 → WiR P F L D C R m) ∧ (∀ b, b < 6 → C 295 b = P 328 b) ∧ ∀ p b, p < 8 → b < 6 → C (297 + p) b = P 330 (6 * p + b)
/-- what a game of this state has sought: trade -/
def GaX (P : Nat → Nat → Int32) (C : Nat → Nat → Int32) (R : Nat → Nat → Option Nat) (X : Nat → Int32) (g : Nat) : Prop := ∃ t, R g 3 = some t ∧ ((C g 4 = 0 ∧ ∀ k, k < 4 → C t k = -1) ∨ (C g 4 = 1 ∧ ∀ k, k < 4 → C t k = X k))
/-- for a pair of sets: what trade finds (worked out in its own part) -/
def CIg (T : (Nat → Nat → Int32) → Nat → Nat → Int32) (P : Nat → Nat → Int32) (F : Nat → Prop) (L : Nat) (D : Nat → Nat × Nat) (C : Nat → Nat → Int32) (R : Nat → Nat → Option Nat) (n : Nat) : Prop :=
  (∀ r, r < 4 → R 292 r = none ∨ ∃ g, R 292 r = some g ∧ GaR P F L D C R n r g ∧ GaX P C R (T P r) g) ∧ ∀ r q g h, r < 4 → q < 4 → r ≠ q → R 292 r = some g → R 292 q = some h → g ≠ h ∧ R g 3 ≠ R h 3
def CI (T : (Nat → Nat → Int32) → Nat → Nat → Int32) (xs : Nat → Int32) (P : Nat → Nat → Int32) (F : Nat → Prop) (f : Nat → Nat) (L : Nat) (D : Nat → Nat × Nat) (C : Nat → Nat → Int32) (R : Nat → Nat → Option Nat) (n : Nat) : Prop :=
  VP P ∧ CIa P F f L D C R n ∧ CIo xs P F L D C R ∧ CIg T P F L D C R n ∧ (∀ i, i < sN P → F (f i)) ∧ ∀ e, R 282 1 = some e → ¬ F e ∧ ∀ r g, r < 4 → R 292 r = some g → e ≠ g ∧ R g 3 ≠ some e
section CI
variable {d L n s : Nat} {D : Nat → Nat × Nat} {C M P : Nat → Nat → Int32} {R : Nat → Nat → Option Nat} {m : Mem} {T : (Nat → Nat → Int32) → Nat → Nat → Int32} {xs : Nat → Int32} {F : Nat → Prop} {f : Nat → Nat}
/-- what a question does: transient ints, the division that is asked, a game -/
def Qs (P : Nat → Nat → Int32) (F : Nat → Prop) (L : Nat) (D : Nat → Nat × Nat) (C : Nat → Nat → Int32) (R : Nat → Nat → Option Nat) (n : Nat) (F' : Nat → Prop) (D' : Nat → Nat × Nat) (C' : Nat → Nat → Int32) (R' : Nat → Nat → Option Nat) (n' : Nat) : Prop :=
  n ≤ n' ∧ (∀ a, F a → F' a) ∧ (∀ a, F' a → F a ∨ n ≤ a) ∧ (∀ a, F' a → 337 ≤ a ∧ a < n') ∧ (∀ a k, a < 337 → wQ a k = false → C' a k = C a k) ∧ (∀ a, a < n → a ≠ 291 → a ≠ 292 → R' a = R a) ∧ (∀ a, F a → C' a = C a) ∧ (∀ a, a < n → kf L D' a = kf L D a) ∧ CIl P C'
theorem wQ_no {a k : Nat} (h : a < 281 ∨ a = 282 ∨ a = 289 ∨ a = 290 ∨ a = 292 ∨ a = 293 ∨ 295 ≤ a) : wQ a k = false := by
  unfold wQ
  have h1 : Nat.beq a 281 = false := nbq (by omega)
  have h2 : (Nat.ble 283 a && Nat.ble a 288) = false := by
    by_cases q : 283 ≤ a
    · rw [nbl (show 288 < a by omega), Bool.and_false]
    · rw [nbl (show a < 283 by omega), Bool.false_and]
  rw [h1, h2, nbq (show a ≠ 291 by omega), nbq (show a ≠ 294 by omega)]
  rfl
theorem WiR.kp {F F' : Nat → Prop} {D' : Nat → Nat × Nat} {C' : Nat → Nat → Int32} {R' : Nat → Nat → Option Nat} {k : Nat} (h : WiR P F L D C R k) (hk : Kp F L D C R D' C' R') (hF : ∀ a, F a → F' a) (h3 : R' 293 k = R 293 k) : WiR P F' L D' C' R' k := by
  rcases h with ⟨h1, h2⟩ | ⟨w, a, h1, h2, h4, h5, h6, h7, h8, h9⟩
  · exact Or.inl ⟨h3.trans h1, h2⟩
  · obtain ⟨a1, a2, a3, a4⟩ := hk w h4
    obtain ⟨b1, b2, b3, b4⟩ := hk a h5
    exact Or.inr ⟨w, a, h3.trans h1, h2, hF _ h4, hF _ h5, ⟨by rw [a1]; exact h6.1, h6.2⟩, ⟨by rw [b1]; exact h7.1, h7.2⟩, by rw [a4]; exact h8, by rw [b2]; exact h9⟩
theorem CIo.kp {F' : Nat → Prop} {D' : Nat → Nat × Nat} {C' : Nat → Nat → Int32} {R' : Nat → Nat → Option Nat} (h : CIo xs P F L D C R) (hk : Kp F L D C R D' C' R') (hF : ∀ a, F a → F' a) (hC : ∀ a k, a < 337 → wQ a k = false → C' a k = C a k) (h3 : R' 293 = R 293) : CIo xs P F' L D' C' R' := by
  obtain ⟨h1, h2, h4, h5, h6, h7, h8, h9, h10⟩ := h
  refine ⟨fun a ha => ?_, (hC _ _ (by decide) rfl).trans h2, (hC _ _ (by decide) rfl).trans h4, (hC _ _ (by decide) rfl).trans h5, (hC _ _ (by decide) rfl).trans h6, fun k hk1 => (hC _ _ (by decide) rfl).trans (h7 k hk1), fun m hm => (h8 m hm).kp hk hF (by rw [h3]), fun b hb => (hC _ _ (by decide) rfl).trans (h9 b hb), fun p b hp hb => (hC _ _ (by omega) (wQ_no (by omega))).trans (h10 p b hp hb)⟩
  rw [← h1 a ha]
  funext k
  exact hC a k (by omega) (wQ_no (by omega))
theorem Qs.kp {F' : Nat → Prop} {D' : Nat → Nat × Nat} {C' : Nat → Nat → Int32} {R' : Nat → Nat → Option Nat} {n' : Nat} (h : Qs P F L D C R n F' D' C' R' n') (hF : ∀ a, F a → 337 ≤ a ∧ a < n) : Kp F L D C R D' C' R' := fun a ha => by
  obtain ⟨h1, h2, h3, h4, h5, h6, h7, h8, h9⟩ := h
  obtain ⟨q1, q2⟩ := hF a ha
  have e := h6 a q2 (by omega) (by omega)
  exact ⟨h8 a q2, h7 a ha, by rw [rf_hi q1, rf_hi q1, e], e⟩
theorem CIa.qs {F' : Nat → Prop} {D' : Nat → Nat × Nat} {C' : Nat → Nat → Int32} {R' : Nat → Nat → Option Nat} {n' : Nat} (h : CIa P F f L D C R n) (q : Qs P F L D C R n F' D' C' R' n') (hf : ∀ i, i < sN P → F (f i)) : CIa P F' f L D' C' R' n' := by
  obtain ⟨a1, a2, a3, a4, a5, a6, a7, a8, a9⟩ := h
  have hk := q.kp a7
  obtain ⟨h1, h2, h3, h4, h5, h6, h7, h8, h9⟩ := q
  refine ⟨a1, ?_, h9, ?_, a5, fun v hv => (h5 _ _ (by omega) (wQ_no (by omega))).trans (a6 v hv), h4, by omega, fun r hr => (a9 r hr).kp hk h1 h2 (by rw [h6 _ (by omega) (by omega) (by omega)])⟩
  · obtain ⟨b1, b2, b3⟩ := a2
    exact ⟨(h5 _ _ (by decide) rfl).trans b1, (h5 _ _ (by decide) rfl).trans b2, (h5 _ _ (by decide) rfl).trans b3⟩
  · refine a4.fr h1 h8 a8 (h5 _ _ (by decide) (wQ_no (by omega))) (by rw [h6 _ (by omega) (by omega) (by omega)]) (fun i hi => h7 _ (hf i hi)) (fun e he => ?_)
    obtain ⟨⟨o, c, e', cap, e1, e2, e3, e4⟩, _⟩ := a4
    rw [e1] at he
    cases he
    rcases e4 with ⟨e4, _⟩ | ⟨e4, e5, e6, e7⟩
    · subst e4; exact h6 _ (by omega) (by omega) (by omega)
    · exact h6 _ e6 (by omega) (by omega)
theorem GaR.kp {F' : Nat → Prop} {D' : Nat → Nat × Nat} {C' : Nat → Nat → Int32} {R' : Nat → Nat → Option Nat} {n' r g : Nat} (h : GaR P F L D C R n r g) (hn : n ≤ n') (hF : ∀ a, F a → F' a) (hF2 : ∀ a, F' a → F a ∨ n ≤ a) (hD : ∀ a, a < n → kf L D' a = kf L D a) (hC : ∀ a, F a → C' a = C a) (hg0 : C' g 0 = C g 0) (hg1 : C' g 1 = C g 1) (hR : R' g = R g) : GaR P F' L D' C' R' n' r g := by
  obtain ⟨o, h1, h2, h3, h4, h5, h6, c, t, h7, h8, h9, h10, h11, h12, h13, h14, h15, h16, h17⟩ := h
  refine ⟨⟨by rw [hD _ h2]; exact o.1, o.2⟩, h1, by omega, fun q => ?_, hg0.trans h4, hg1.trans h5, by rw [hR]; exact h6, c, t, by rw [hR]; exact h7, ⟨by rw [hD _ h9]; exact h8.1, h8.2⟩, by omega, hF _ h10, fun S hS => by rw [hC _ h10]; exact h11 S hS, by rw [hR]; exact h12, ⟨by rw [hD _ h15]; exact h13.1, h13.2⟩, h14, by omega, fun q => ?_, h17⟩
  · rcases hF2 _ q with q | q
    · exact h3 q
    · omega
  · rcases hF2 _ q with q | q
    · exact h16 q
    · omega
/-- an own question that makes no game and seeks none -/
theorem CI.qs {F' : Nat → Prop} {D' : Nat → Nat × Nat} {C' : Nat → Nat → Int32} {R' : Nat → Nat → Option Nat} {n' : Nat} (h : CI T xs P F f L D C R n) (q : Qs P F L D C R n F' D' C' R' n') (hg : CIg T P F' L D' C' R' n') (he : ∀ e, R 282 1 = some e → ∀ r g, r < 4 → R' 292 r = some g → e ≠ g ∧ R' g 3 ≠ some e) : CI T xs P F' f L D' C' R' n' := by
  obtain ⟨a1, a2, a3, a4, a5, a6⟩ := h
  have hk := q.kp a2.2.2.2.2.2.2.1
  have ha := a2.qs q a5
  obtain ⟨h1, h2, h3, h4, h5, h6, h7, h8, h9⟩ := q
  have h337 := a2.2.2.2.2.2.2.2.1
  have e293 : R' 293 = R 293 := h6 _ (by omega) (by omega) (by omega)
  have e282 : R' 282 1 = R 282 1 := by rw [h6 _ (by omega) (by omega) (by omega)]
  refine ⟨a1, ha, a3.kp hk h2 h5 e293, hg, fun i hi => h2 _ (a5 i hi), fun e hE => ?_⟩
  rw [e282] at hE
  refine ⟨fun z => ?_, he e hE⟩
  rcases h3 _ z with z | z
  · exact (a6 e hE).1 z
  · obtain ⟨⟨o, c, e', cap, e1, e2, e3, e4⟩, _⟩ := a2.2.2.2.1
    rw [e1] at hE
    cases hE
    rcases e4 with ⟨e4, _⟩ | ⟨e4, e5, e6, e7⟩ <;> omega
/-- no game is made, none sought -/
theorem CIg.same {F' : Nat → Prop} {D' : Nat → Nat × Nat} {C' : Nat → Nat → Int32} {R' : Nat → Nat → Option Nat} {n' : Nat} (h : CIg T P F L D C R n) (q : Qs P F L D C R n F' D' C' R' n') (h292 : R' 292 = R 292) (hC : ∀ a, 337 ≤ a → a < n → C' a = C a) : CIg T P F' L D' C' R' n' := by
  obtain ⟨h1, h2, h3, h4, h5, h6, h7, h8, h9⟩ := q
  obtain ⟨g1, g2⟩ := h
  refine ⟨fun r hr => ?_, fun r q g h hr hq hne e1 e2 => ?_⟩
  · rcases g1 r hr with g | ⟨g, e, hG, hX⟩
    · exact Or.inl (by rw [h292]; exact g)
    · have e1 : C' g = C g := hC g hG.2.1 hG.2.2.1
      have e2 : R' g = R g := h6 g hG.2.2.1 (by have := hG.2.1; omega) (by have := hG.2.1; omega)
      refine Or.inr ⟨g, by rw [h292]; exact e, hG.kp h1 h2 h3 h8 h7 (by rw [e1]) (by rw [e1]) e2, ?_⟩
      obtain ⟨o, q1, q2, q3, q4, q5, q6, c, t, q7, q8, q9, q10, q11, q12, q13, q14, q15, q16, q17⟩ := hG
      obtain ⟨t', x1, x2⟩ := hX
      rw [q12] at x1
      cases x1
      refine ⟨t, by rw [e2]; exact q12, ?_⟩
      rw [e1, hC t q14 q15]
      exact x2
  · rw [h292] at e1 e2
    rcases g1 r hr with z | ⟨g', z1, z2, _⟩
    · rw [z] at e1; cases e1
    rcases g1 q hq with z | ⟨g'', z3, z4, _⟩
    · rw [z] at e2; cases e2
    rw [z1] at e1; cases e1
    rw [z3] at e2; cases e2
    have p1 : R' g = R g := h6 _ z2.2.2.1 (by have := z2.2.1; omega) (by have := z2.2.1; omega)
    have p2 : R' h = R h := h6 _ z4.2.2.1 (by have := z4.2.1; omega) (by have := z4.2.1; omega)
    rw [p1, p2]
    exact g2 r q g h hr hq hne z1 z3
/-- only transient ints and the division asked -/
theorem CI.tr {C' : Nat → Nat → Int32} {R' : Nat → Nat → Option Nat} (h : CI T xs P F f L D C R n) (h5 : ∀ a k, a < 337 → wQ a k = false → C' a k = C a k) (hC : ∀ a, 337 ≤ a → C' a = C a) (hR : ∀ a, a ≠ 291 → R' a = R a) (hl : CIl P C') : CI T xs P F f L D C' R' n := by
  have hq : Qs P F L D C R n F D C' R' n := ⟨Nat.le_refl n, fun _ h => h, fun _ h => Or.inl h, h.2.1.2.2.2.2.2.2.1, h5, fun a _ h1 _ => hR a h1, fun a ha => hC a (h.2.1.2.2.2.2.2.2.1 a ha).1, fun _ _ => rfl, hl⟩
  have h292 : R' 292 = R 292 := hR _ (by decide)
  refine h.qs hq (h.2.2.2.1.same hq h292 (fun a h1 _ => hC a h1)) (fun e he r g hr hg => ?_)
  rw [h292] at hg
  have := (h.2.2.2.2.2 e he).2 r g hr hg
  rcases h.2.2.2.1.1 r hr with z | ⟨g', z1, z2, _⟩
  · rw [z] at hg; cases hg
  rw [z1] at hg; cases hg
  rw [hR _ (by have := z2.2.1; omega)]
  exact this
/-- game(r): it is there, or is made -/
theorem t52x {r : Nat} (h : CI T xs P F f L D C R n) (hr : r < 4) : Ev (d + 202) 52 [.ref 281, .int (nI r)] (mk L D C M R n s) (Rt (fun v m' => ∃ g F' D' C' R' n' s', v = some (.ref g) ∧ m' = mk L D' C' M R' n' s' ∧ CI T xs P F' f L D' C' R' n' ∧ (Laid P C → Laid P C') ∧ R' 292 r = some g ∧ n' ≤ n + 3 ∧ s' ≤ s + 1034 ∧ ∀ a k, a < 337 → a ≠ 291 → wV a k = false → C' a k = C a k)) := by
  have hA := h.2.1
  have hn := hA.2.2.2.2.2.2.2.1
  have e0 : rf R 292 r = R 292 r := by rw [rf_op rfl]
  refine ev_in rfl ?_
  rcases h.2.2.2.1.1 r hr with hnone | ⟨g, hg, hG, hX⟩
  · have e1 : rf R 292 r = none := e0.trans hnone
    have hob : Ob L (fu D n (18, 0)) n 18 0 := Ob.new hn
    have hAF := hA.2.2.2.2.2.2.1
    have hAS := hA.2.2.2.1
    have h1A : CIa P F f L (fu D n (18, 0)) (fu C n fun _ => 0) (fu R n fun _ => none) (n + 1) := by
      refine hA.qs ⟨by omega, fun _ h => h, fun _ h => Or.inl h, fun a ha => by have := hAF a ha; omega, fun a k h1 h2 => by rw [fu_ne (by omega)], fun a h1 _ _ => fu_ne (by omega), fun a ha => fu_ne (by have := hAF a ha; omega), fun a ha => kf_up (by omega), ?_⟩ h.2.2.2.2.1
      rcases hA.2.2.1 with q | q
      · exact Or.inl (by rw [fu_ne (by omega)]; exact q)
      · exact Or.inr (q.fr (by rw [fu_ne (by omega)]) (fu_ne (by omega)) (fu_ne (by omega)) (fu_ne (by omega)))
    refine go_t 0 rfl ?_
    refine go_gR rfl rfl rfl rfl ?_
    refine go_t 0 rfl ?_
    refine go_aald (k := r) rfl rfl rfl rfl (by omega) (by decide) e1 ?_
    refine go_nul2 rfl ?_
    refine go_t 0 rfl ?_
    refine go_gR rfl rfl rfl rfl ?_
    refine go_t 0 rfl ?_
    refine go_new rfl hn ?_
    refine go_t 0 rfl ?_
    refine go_c (d := d + 201) (cmd_i2 rfl rfl rfl (cw_l hob.c)) rfl (t215 (d := d) (F := F) (f := f) hr h1A (by omega) (by omega) (fun q => by have := (hAF _ q).2; omega) (fun i hi => by have := (hAS.2 i hi).2.1; omega) (fun q => by
      rw [fu_ne (by omega)] at q
      obtain ⟨⟨o, c, e', cap, e1, e2, e3, e4⟩, _⟩ := hAS
      rw [e1] at q
      cases q
      rcases e4 with ⟨e4, _⟩ | ⟨e4, e5, e6, e7⟩ <;> omega) hob) (fun v1 m1 hq1 => ?_)
    obtain ⟨rfl, C1, R1, rfl, k1, k2, k3, k4, k5, k6, k7, k8, k9, k10, k11, k12⟩ := hq1
    have hob3 : Ob L (fu (fu (fu D n (18, 0)) (n + 1) (102, 1024)) (n + 1 + 1) (101, 4)) n 18 0 := (hob.up (by omega)).up (by omega)
    refine go_aast (k := r) rfl rfl rfl rfl rfl rfl hr (by decide) hob3.k rfl ?_
    have eC : ∀ a k, a < 337 → wQ a k = false → C1 a k = C a k := fun a k h1 h2 => by rw [k1 a k h1 (fun q => by subst q; simp [wQ] at h2) (wV_wQ h2), fu_ne (by omega)]
    have eC2 : ∀ a, 337 ≤ a → a < n → C1 a = C a := fun a h1 h2 => by rw [k2 a h1 (by omega) (by omega), fu_ne (by omega)]
    have eR : ∀ a, a < n → a ≠ 291 → R1 a = R a := fun a h1 h2 => by rw [k3 a (by omega) (by omega) h2, fu_ne (by omega)]
    have eR2 : ∀ a, a < n → a ≠ 291 → a ≠ 292 → wr R1 292 r (some n) a = R a := fun a h1 h2 h3 => by rw [wr_ne h3]; exact eR a h1 h2
    have eF : ∀ a, (F a ∨ a = n + 1) → 337 ≤ a ∧ a < n + 1 + 2 := fun a ha => by
      rcases ha with ha | ha
      · have := hAF a ha; omega
      · omega
    have hq : Qs P F L D C R n (fun a => F a ∨ a = n + 1) (fu (fu (fu D n (18, 0)) (n + 1) (102, 1024)) (n + 1 + 1) (101, 4)) C1 (wr R1 292 r (some n)) (n + 1 + 2) :=
      ⟨by omega, fun _ h => Or.inl h, fun a ha => ha.elim Or.inl (fun q => Or.inr (by omega)), eF, eC, eR2, fun a ha => eC2 a (hAF a ha).1 (hAF a ha).2, fun a ha => by rw [kf_up (by omega), kf_up (by omega), kf_up (by omega)], Or.inr k4⟩
    have e292 : ∀ q, q ≠ r → wr R1 292 r (some n) 292 q = R 292 q := fun q hq => by rw [wrk hq, eR _ (by omega) (by omega)]
    have eG : GaR P (fun a => F a ∨ a = n + 1) L (fu (fu (fu D n (18, 0)) (n + 1) (102, 1024)) (n + 1 + 1) (101, 4)) C1 (wr R1 292 r (some n)) (n + 1 + 2) r n := by
      refine ⟨hob3, hn, by omega, fun q => ?_, k5, k6, by rw [wr_ne (by omega)]; exact k7, n + 1, n + 1 + 1, by rw [wr_ne (by omega)]; exact k8, (Ob.new (by omega)).up (by omega), by omega, Or.inr rfl, k10, by rw [wr_ne (by omega)]; exact k9, Ob.new (by omega), by omega, by omega, fun q => ?_, by omega⟩
      · rcases q with q | q
        · have := (hAF _ q).2; omega
        · omega
      · rcases q with q | q
        · have := (hAF _ q).2; omega
        · omega
    have eX : GaX P C1 (wr R1 292 r (some n)) (T P r) n := ⟨n + 1 + 1, by rw [wr_ne (by omega)]; exact k9, Or.inl ⟨by rw [k11, fu_self], k12⟩⟩
    have hCg := h.2.2.2.1
    have old : ∀ q g, q < 4 → q ≠ r → R 292 q = some g → GaR P F L D C R n q g ∧ GaX P C R (T P q) g := fun q g hq hqr e => by
      rcases hCg.1 q hq with z | ⟨g', z1, z2, z3⟩
      · rw [z] at e; cases e
      · rw [z1] at e; cases e; exact ⟨z2, z3⟩
    have hR2n : wr R1 292 r (some n) n 3 = some (n + 1 + 1) := by rw [wr_ne (by omega)]; exact k9
    have hgnew : CIg T P (fun a => F a ∨ a = n + 1) L (fu (fu (fu D n (18, 0)) (n + 1) (102, 1024)) (n + 1 + 1) (101, 4)) C1 (wr R1 292 r (some n)) (n + 1 + 2) := by
      have hold : ∀ q g, q < 4 → q ≠ r → R 292 q = some g → g < n ∧ wr R1 292 r (some n) g = R g ∧ ∃ t, R g 3 = some t ∧ t < n := fun q g hq hqr e => by
        obtain ⟨z2, z3⟩ := old q g hq hqr e
        obtain ⟨o, q1, q2, q3, q4, q5, q6, c, t, q7, q8, q9, q10, q11, q12, q13, q14, q15, q16, q17⟩ := z2
        exact ⟨q2, eR2 g q2 (by omega) (by omega), t, q12, q15⟩
      refine ⟨fun q hq4 => ?_, fun q1 q2 g1 g2 h1 h2 hne e1 e2 => ?_⟩
      · by_cases hqr : q = r
        · subst hqr
          exact Or.inr ⟨n, wrs .., eG, eX⟩
        · rw [e292 q hqr]
          rcases hCg.1 q hq4 with z | ⟨g', z1, z2, z3⟩
          · exact Or.inl z
          · obtain ⟨y1, y2, t, y3, y4⟩ := hold q g' hq4 hqr z1
            have yC := eC2 g' z2.2.1 y1
            refine Or.inr ⟨g', z1, z2.kp hq.1 hq.2.1 hq.2.2.1 hq.2.2.2.2.2.2.2.1 hq.2.2.2.2.2.2.1 (by rw [yC]) (by rw [yC]) y2, ?_⟩
            obtain ⟨o, q1, q2, q3, q4, q5, q6, c, t, q7, q8, q9, q10, q11, q12, q13, q14, q15, q16, q17⟩ := z2
            obtain ⟨t', x1, x2⟩ := z3
            rw [q12] at x1
            cases x1
            refine ⟨t, by rw [y2]; exact q12, ?_⟩
            rw [yC, eC2 t q14 q15]
            exact x2
      · by_cases hq1 : q1 = r
        · subst hq1
          rw [wrs] at e1
          cases e1
          rw [e292 q2 (fun z => hne z.symm)] at e2
          obtain ⟨y1, y2, t, y3, y4⟩ := hold q2 g2 h2 (fun z => hne z.symm) e2
          refine ⟨by omega, ?_⟩
          rw [hR2n, y2, y3]
          intro z
          cases z
          omega
        · rw [e292 q1 hq1] at e1
          obtain ⟨y1, y2, t, y3, y4⟩ := hold q1 g1 h1 hq1 e1
          by_cases hq2 : q2 = r
          · subst hq2
            rw [wrs] at e2
            cases e2
            refine ⟨by omega, ?_⟩
            rw [hR2n, y2, y3]
            intro z
            cases z
            omega
          · rw [e292 q2 hq2] at e2
            obtain ⟨w1, w2, t2, w3, w4⟩ := hold q2 g2 h2 hq2 e2
            rw [y2, w2]
            exact hCg.2 q1 q2 g1 g2 h1 h2 hne e1 e2
    have hfin : CI T xs P (fun a => F a ∨ a = n + 1) f L (fu (fu (fu D n (18, 0)) (n + 1) (102, 1024)) (n + 1 + 1) (101, 4)) C1 (wr R1 292 r (some n)) (n + 1 + 2) := by
      refine h.qs hq hgnew (fun e he q g hq4 hg => ?_)
      have hee : e < n ∨ e = 1 := by
        obtain ⟨⟨o, c, e', cap, e1, e2, e3, e4⟩, _⟩ := hAS
        rw [e1] at he
        cases he
        rcases e4 with ⟨e4, _⟩ | ⟨e4, e5, e6, e7⟩
        · exact Or.inr e4
        · exact Or.inl e6
      by_cases hqr : q = r
      · subst hqr
        rw [wrs] at hg
        cases hg
        refine ⟨by omega, ?_⟩
        rw [hR2n]
        intro z
        cases z
        omega
      · rw [e292 q hqr] at hg
        have y := (h.2.2.2.2.2 e he).2 q g hq4 hg
        obtain ⟨z2, _⟩ := old q g hq4 hqr hg
        rw [eR2 g z2.2.2.1 (by have := z2.2.1; omega) (by have := z2.2.1; omega)]
        exact y
    refine go_t 0 rfl ?_
    refine go_gR rfl rfl rfl rfl ?_
    refine go_t 0 rfl ?_
    refine go_aald (k := r) rfl rfl rfl rfl (by omega) (by decide) (show rf (wr R1 292 r (some n)) 292 r = some n by rw [rf_op rfl, wrs]) ?_
    refine go_ret rfl ?_
    exact ⟨n, _, _, C1, _, _, _, rfl, rfl, hfin, fun _ => k4, wrs .., by omega, by omega, fun a k h1 h2 h3 => by rw [k1 a k h1 h2 h3, fu_ne (by omega)]⟩
  · have e1 : rf R 292 r = some g := e0.trans hg
    have hGo := hG.1
    refine go_t 0 rfl ?_
    refine go_gR rfl rfl rfl rfl ?_
    refine go_t 0 rfl ?_
    refine go_aald (k := r) rfl rfl rfl rfl (by omega) (by decide) e1 ?_
    refine go_ifnon rfl hGo.k rfl ?_
    refine go_t 0 rfl ?_
    refine go_gR rfl rfl rfl rfl ?_
    refine go_t 0 rfl ?_
    refine go_aald (k := r) rfl rfl rfl rfl (by omega) (by decide) e1 ?_
    refine go_ret rfl ?_
    exact ⟨g, F, D, C, R, n, s, rfl, rfl, h, id, hg, by omega, by omega, fun _ _ _ _ _ => rfl⟩
theorem t52 {r : Nat} (h : CI T xs P F f L D C R n) (hr : r < 4) : Ev (d + 202) 52 [.ref 281, .int (nI r)] (mk L D C M R n s) (Rt (fun v m' => ∃ g F' D' C' R' n' s', v = some (.ref g) ∧ m' = mk L D' C' M R' n' s' ∧ CI T xs P F' f L D' C' R' n' ∧ (Laid P C → Laid P C') ∧ R' 292 r = some g ∧ n' ≤ n + 3 ∧ s' ≤ s + 1034)) :=
  go_post (t52x h hr) (fun q hq => by
    obtain ⟨o, mm⟩ := q
    cases o with
    | inr a => exact hq.elim
    | inl v =>
      obtain ⟨g, F', D', C', R', n', s', h1, h2, h3, h4, h5, h6, h7, _⟩ := hq
      exact ⟨g, F', D', C', R', n', s', h1, h2, h3, h4, h5, h6, h7⟩)
end CI
