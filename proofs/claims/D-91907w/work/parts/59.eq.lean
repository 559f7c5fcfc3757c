/-! WHAT DEPENDS ON WHAT of P; trade's meaning; the operations put together -/
set_option maxRecDepth 100000
/-- what the sets depend on -/
def hp (a k : Nat) : Bool := (Nat.beq a 305 && (Nat.beq k 1 || Nat.beq k 2 || Nat.beq k 8 || Nat.beq k 9)) || (Nat.ble 306 a && Nat.ble a 310) || Nat.beq a 317 || Nat.beq a 318 || Nat.beq a 319
def HP (P P' : Nat → Nat → Int32) : Prop := ∀ a k, hp a k = true → P' a k = P a k
theorem HP.wr {P : Nat → Nat → Int32} {a k : Nat} {v : Int32} (h : hp a k = false) : HP P (wr P a k v) := fun b j hb => by
  by_cases e : b = a
  · subst e
    exact wrk (fun q => by subst q; rw [h] at hb; cases hb)
  · rw [wr_ne e]
section HQ
variable {P P' : Nat → Nat → Int32} {dk kn : Int32}
theorem mN_hp (h : HP P P') : mN P' = mN P := congrArg Int32.toNatClampNeg (h 305 1 rfl)
theorem sN_hp (h : HP P P') : sN P' = sN P := congrArg Int32.toNatClampNeg (h 305 2 rfl)
theorem bst_hp (h : HP P P') (m : Int32) : ∀ i, bst P' dk kn m i = bst P dk kn m i := by
  intro i
  induction i with
  | zero => rfl
  | succ i ih =>
    have e1 := h 306 i rfl
    have e2 := h 310 i rfl
    have e3 := h 307 i rfl
    have e4 : ∀ j, P' 307 j = P 307 j := fun j => h 307 j rfl
    unfold bst
    rw [ih, e1, e2, e3]
    split
    · split
      · split
        · cases bst P dk kn m i with
          | none => rfl
          | some j => dsimp only; rw [e4]
        · rfl
      · rfl
    · rfl
theorem blS_hp (h : HP P P') : blS P' dk kn = blS P dk kn := by
  funext m
  unfold blS
  rw [sN_hp h, bst_hp h]
  cases bst P dk kn (nI m) (sN P) with
  | none => rfl
  | some i => exact h 309 i rfl
theorem wtS_hp (h : HP P P') : wtS P' dk kn = wtS P dk kn := by
  funext m
  unfold wtS
  rw [blS_hp h, sN_hp h, bst_hp h]
  split
  · rfl
  · cases bst P dk kn (nI m) (sN P) with
    | none => rfl
    | some i => exact h 308 i rfl
theorem inN_hp (h : HP P P') : ∀ k, inN P' dk kn k = inN P dk kn k := by
  intro k
  induction k with
  | zero => rfl
  | succ k ih => rw [inN, inN, ih, blS_hp h]
theorem myN_hp (h : HP P P') : ∀ k, myN P' dk kn k = myN P dk kn k := by
  intro k
  induction k with
  | zero => rfl
  | succ k ih => rw [myN, myN, ih, blS_hp h]
theorem alI_hp (h : HP P P') : ∀ k, alI P' dk kn k = alI P dk kn k := by
  intro k
  induction k with
  | zero => rfl
  | succ k ih => rw [alI, alI, ih, blS_hp h, wtS_hp h]
theorem lfS_hp (h : HP P P') (S : Nat) : lfS P' dk kn S = lfS P dk kn S := by
  funext o v
  unfold lfS
  rw [mN_hp h, blS_hp h, wtS_hp h, myN_hp h, alI_hp h]
theorem cmy_hp (h : HP P P') (r : Nat) : cmy P' r = cmy P r := congrArg Int32.toNatClampNeg (h 317 r rfl)
theorem opS_hp (h : HP P P') (r : Nat) : opS P' r = opS P r := funext fun k => h 318 _ rfl
theorem arS_hp (h : HP P P') (r : Nat) : arS P' r = arS P r := funext fun k => h 319 _ rfl
theorem vaS_hp (h : HP P P') (r S : Nat) : vaS P' dk kn r S = vaS P dk kn r S := by
  unfold vaS
  rw [lfS_hp h, opS_hp h, arS_hp h, cmy_hp h]
theorem iN_hp (h : HP P P') : iN P' = iN P := by
  show inN P' (P' 305 8) (P' 305 9) (mN P') = _
  rw [h 305 8 rfl, h 305 9 rfl, mN_hp h, inN_hp h]
theorem crP_hp (h : HP P P') (r S : Nat) : crP P' r S ↔ crP P r S := by
  unfold crP carP
  rw [iN_hp h, h 305 8 rfl, h 305 9 rfl, cmy_hp h, vaS_hp h]
theorem HsC_hp (h : HP P P') {x w b : Nat} {C : Nat → Nat → Int32} (q : HsC P dk kn x w b C) : HsC P' dk kn x w b C := by
  unfold HsC at q ⊢
  rw [mN_hp h, inN_hp h, alI_hp h, blS_hp h, wtS_hp h]
  exact q
theorem Laid_hp (h : HP P P') {C : Nat → Nat → Int32} (q : Laid P C) : Laid P' C := by
  unfold Laid at q ⊢
  rw [h 305 8 rfl, h 305 9 rfl]
  exact ⟨q.1, HsC_hp h q.2⟩
theorem VP1_hp (h : HP P P') (q : VP1 P) : VP1 P' := by
  unfold VP1 at q ⊢
  rw [mN_hp h, sN_hp h, h 305 1 rfl, h 305 2 rfl]
  exact q
theorem VP2_hp (h : HP P P') (q : VP2 P) : VP2 P' := by
  unfold VP2 at q ⊢
  intro r hr
  rw [cmy_hp h, opS_hp h, h 317 r rfl]
  exact q r hr
theorem VPs_hp (h : HP P P') (q : VPs P) : VPs P' := by
  unfold VPs at q ⊢
  rw [sN_hp h]
  have e1 : ∀ i, P' 309 i = P 309 i := fun i => h 309 i rfl
  have e2 : ∀ i, P' 308 i = P 308 i := fun i => h 308 i rfl
  have e3 : ∀ i, P' 310 i = P 310 i := fun i => h 310 i rfl
  simp only [e1, e2, e3]
  exact q
variable {L n : Nat} {D : Nat → Nat × Nat} {C : Nat → Nat → Int32} {R : Nat → Nat → Option Nat} {F : Nat → Prop} {f : Nat → Nat}
theorem ShR_hp (h : HP P P') (q : ShR P L D C R n f) : ShR P' L D C R n f := by
  unfold ShR at q ⊢
  rw [sN_hp h]
  refine ⟨q.1, fun i hi => ?_⟩
  have := q.2 i hi
  unfold ShE at this ⊢
  rw [h 306 i rfl, h 307 i rfl, h 308 i rfl, h 309 i rfl, h 310 i rfl]
  exact this
theorem RuR_hp (h : HP P P') {r : Nat} (q : RuR P F L D C R n r) : RuR P' F L D C R n r := by
  unfold RuR at q ⊢
  rw [cmy_hp h, opS_hp h, arS_hp h]
  exact q
theorem CIa_hp (h : HP P P') (q : CIa P F f L D C R n) : CIa P' F f L D C R n := by
  obtain ⟨a1, a2, a3, a4, a5, a6, a7, a8, a9⟩ := q
  refine ⟨VP1_hp h a1, ?_, ?_, ShR_hp h a4, by rw [sN_hp h]; exact a5, a6, a7, a8, fun r hr => RuR_hp h (a9 r hr)⟩
  · unfold CIv at a2 ⊢
    rw [h 305 1 rfl, h 305 8 rfl, h 305 9 rfl]
    exact a2
  · exact a3.elim Or.inl (fun z => Or.inr (Laid_hp h z))
theorem GaR_hp (h : HP P P') {r g : Nat} (q : GaR P F L D C R n r g) : GaR P' F L D C R n r g := by
  obtain ⟨b1, b2, b3, b4, b5, b6, b7, c, t, b8, b9, b10, b11, b12, b13⟩ := q
  exact ⟨b1, b2, b3, b4, by rw [iN_hp h]; exact b5, by rw [iN_hp h]; exact b6, b7, c, t, b8, b9, b10, b11, fun S hS => by rw [b12 S hS]; exact bI_iff (crP_hp h r S).symm, b13⟩
end HQ
/-! trades -/
def fst (p : Nat → Bool) : Nat → Option Nat
  | 0 => none
  | k + 1 => match fst p k with
    | some x => some x
    | none => bif p k then some k else none
def oth (a b c : Nat) : Nat := (a &&& b) ||| nsub (a ^^^ b) c
/-- of two sets that carry a change of sides after which neither does -/
def losB (cr : Nat → Bool) (a b c : Nat) : Bool := decide (nsub (a &&& b) c = 0) && decide (nsub c (a ||| b) = 0) && decide (c < oth a b c) && !cr c && !cr (oth a b c)
def los (cr : Nat → Bool) (a b : Nat) : Option Nat := fst (losB cr a b) 1024
def pairB (cr : Nat → Bool) (a b : Nat) : Bool := decide (a < b) && cr a && cr b && (los cr a b).isSome
def trA (cr : Nat → Bool) : Option Nat := fst (fun a => (fst (pairB cr a) 1024).isSome) 1024
def trT (P : Nat → Nat → Int32) (r k : Nat) : Int32 :=
  match trA (fun S => decide (crP P r S)) with
  | none => -1
  | some a => match fst (pairB (fun S => decide (crP P r S)) a) 1024 with
    | none => -1
    | some b => match los (fun S => decide (crP P r S)) a b with
      | none => -1
      | some c => if k = 0 then nI a else if k = 1 then nI b else if k = 2 then nI c else nI (oth a b c)
theorem trT_hp {P P' : Nat → Nat → Int32} (h : HP P P') (r : Nat) : trT P' r = trT P r := by
  have e : (fun S => decide (crP P' r S)) = fun S => decide (crP P r S) := funext fun S => by
    rw [decide_eq_decide]
    exact crP_hp h r S
  funext k
  unfold trT
  rw [e]
theorem CIg_hp {P P' : Nat → Nat → Int32} {L n : Nat} {D : Nat → Nat × Nat} {C : Nat → Nat → Int32} {R : Nat → Nat → Option Nat} {F : Nat → Prop} (h : HP P P') (q : CIg trT P F L D C R n) : CIg trT P' F L D C R n := by
  refine ⟨fun r hr => ?_, q.2⟩
  rcases q.1 r hr with z | ⟨g, z1, z2, z3⟩
  · exact Or.inl z
  · refine Or.inr ⟨g, z1, GaR_hp h z2, ?_⟩
    obtain ⟨t, x1, x2⟩ := z3
    refine ⟨t, x1, ?_⟩
    rw [trT_hp h]
    exact x2
/-! the operations put together -/
def MoOK (P u : Nat → Nat → Int32) (y : Nat) (As : List Value) (w : Value) : Prop := ∀ L D C M R n s, pr M = P → Ev 1499 y (.ref 305 :: As) (mk L D C M R n s) (Rt (fun v m' => v = some w ∧ ∃ M', m' = mk L D C M' R n s ∧ pr M' = u))
def CoOK (P u : Nat → Nat → Int32) (y : Nat) (As : List Value) (w : Value) : Prop := ∀ xs F f L D C M R n s, CI trT xs P F f L D C R n → Ev 1499 y (.ref 281 :: As) (mk L D C M R n s) (Rt (fun v m' => v = some w ∧ ∃ F' f' D' C' R' n' s', m' = mk L D' C' M R' n' s' ∧ CI trT xs u F' f' L D' C' R' n' ∧ n' ≤ n + 16000 ∧ s' ≤ s + 90000))
def InvR (L r : Nat) (m : Mem) : Prop := ∃ xs P F f D C M R n s, m = mk L D C M R n s ∧ pr M = P ∧ CI trT xs P F f L D C R n ∧ n ≤ 337 + 16000 * r ∧ s ≤ 72000 + 90000 * r
theorem slots_le {a b r x y : Nat} (h : a ≤ b + y) (h2 : b ≤ x + y * r) : a ≤ x + y * (r + 1) := Nat.le_trans h (Nat.le_trans (Nat.add_le_add_right h2 _) (Nat.le_of_eq (by rw [Nat.mul_succ, Nat.add_assoc])))
theorem op_ok {L yC yM : Nat} {isl : Bool} {As : List Value} (h : ∀ P, VP P → ∃ w u, (bif isl then ∃ x, w = Value.long x else ∃ x, w = Value.int x) ∧ CoOK P u yC As w ∧ MoOK P u yM As w) : OpOK L (InvR L) isl yC yM As := by
  intro r D I Rd n s ⟨xs, P, F, f, D1, C, M, R, n1, s1, e, hM, hC, hn, hs⟩
  obtain ⟨w, u, hw, hc, hm⟩ := h P hC.1
  have eI : I = j2 C M := congrArg (fun z : Mem => z.2.1) e
  have e0 : I 0 = C 0 := by rw [eI]; exact j2_c rfl
  rw [e]
  refine go_post (hc xs F f L D1 C M R n1 s1 hC) (fun q hq => ?_)
  obtain ⟨o, mm⟩ := q
  cases o with
  | inr a => exact hq.elim
  | inl v =>
    obtain ⟨hv, F', f', D', C', R', n', s', hm', hC', hn', hs'⟩ := hq
    refine ⟨w, D', j2 C' M, R', n', s', hv, hw, hm', ?_, ?_⟩
    · rw [e0, j2_c rfl, hC.2.2.1.1 0 (by decide), hC'.2.2.1.1 0 (by decide)]
    · show Ev 1499 yM (.ref 305 :: As) mm _
      rw [show mm = mk L D' C' M R' n' s' from hm']
      refine go_post (hm L D' C' M R' n' s' hM) (fun q hq => ?_)
      obtain ⟨o, m2⟩ := q
      cases o with
      | inr a => exact hq.elim
      | inl v2 =>
        obtain ⟨hv2, M', hm2, hu⟩ := hq
        have g1 : n' ≤ 337 + 16000 * (r + 1) := slots_le hn' hn
        have g2 : s' ≤ 72000 + 90000 * (r + 1) := slots_le hs' hs
        have hi : InvR L (r + 1) m2 := ⟨xs, u, F', f', D', C', M', R', n', s', hm2, hu, hC', g1, g2⟩
        exact ⟨hv2, D', j2 C' M', R', n', s', hm2, hi⟩
