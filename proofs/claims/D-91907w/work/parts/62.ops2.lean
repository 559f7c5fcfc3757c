/-! OPERATIONS: leasts, least, odd, worth -/
set_option maxRecDepth 100000
section O2
variable {d L n s : Nat} {D : Nat → Nat × Nat} {C M P : Nat → Nat → Int32} {R : Nat → Nat → Option Nat} {m : Mem} {xs : Nat → Int32} {F : Nat → Prop} {f : Nat → Nat}
/-- a new cell that nobody keeps -/
theorem CI.alloc (h : CI trT xs P F f L D C R n) {x : Nat × Nat} {Y : Nat → Int32} {Z : Nat → Option Nat} : CI trT xs P F f L (fu D n x) (fu C n Y) (fu R n Z) (n + 1) := by
  have hA := h.2.1
  have hn := hA.2.2.2.2.2.2.2.1
  have hF := hA.2.2.2.2.2.2.1
  have hq : Qs P F L D C R n F (fu D n x) (fu C n Y) (fu R n Z) (n + 1) := by
    refine ⟨by omega, fun _ h => h, fun _ h => Or.inl h, fun a ha => by have := hF a ha; omega, fun a k h1 h2 => by rw [fu_ne (by omega)], fun a h1 _ _ => fu_ne (by omega), fun a ha => fu_ne (by have := hF a ha; omega), fun a ha => kf_up (by omega), ?_⟩
    rcases hA.2.2.1 with q | q
    · exact Or.inl (by rw [fu_ne (by omega)]; exact q)
    · exact Or.inr (q.fr (by rw [fu_ne (by omega)]) (fu_ne (by omega)) (fu_ne (by omega)) (fu_ne (by omega)))
  have h292 : fu R n Z 292 = R 292 := fu_ne (by omega)
  refine h.qs hq (h.2.2.2.1.same hq h292 (fun a h1 h2 => fu_ne (by omega))) (fun e he r g hr hg => ?_)
  rw [h292] at hg
  rw [fu_ne (by have := (h.game hr hg).1.2.2.1; omega)]
  exact (h.2.2.2.2.2 e he).2 r g hr hg
theorem b01 {b : Int32} (h : 0 ≤ b ∧ b ≤ 1) : ∃ w, w < 2 ∧ b = nI w := by
  obtain ⟨x, hx, e⟩ := in_n 1 (N := 1) rfl h
  exact ⟨x, by omega, e⟩
theorem mo10 (hV : VP P) (a b : Int32) : MoOK P P 133 [.int a, .int b] (.int (leastsS P a b)) := fun L D C M R n s hP => t133 (d := 1493) hP hV.1 hV.2.1 a b
theorem mo11 (hV : VP P) (a b i : Int32) : MoOK P P 137 [.int a, .int b, .int i] (.int (leastS P a b i)) := fun L D C M R n s hP => t137 (d := 1493) hP hV.1 hV.2.1 a b i
theorem co10 (a b : Int32) : CoOK P P 54 [.int a, .int b] (.int (leastsS P a b)) := by
  intro xs F f L D C M R n s h
  refine ev_in rfl ?_
  refine go_t 0 rfl ?_
  refine go_f rfl rfl (t48 _) ?_
  refine go_br rfl (fun h4 => ?_) (fun h4 => ?_)
  · skip
    replace h4 := bI_0.mp h4
    refine go_t 0 rfl (go_ret rfl ?_)
    exact ⟨by rw [leastsS, if_neg (fun q => h4 q.1)], F, f, D, C, R, n, s, rfl, h, by omega, by omega⟩
  replace h4 := bI_n0.mp h4
  refine go_t 0 rfl ?_
  refine go_f rfl rfl (t37 _ _ _) ?_
  refine go_br rfl (fun h13 => ?_) (fun h13 => ?_)
  · skip
    replace h13 := bI_0.mp h13
    refine go_t 0 rfl (go_ret rfl ?_)
    exact ⟨by rw [leastsS, if_neg (fun q => h13 q.2)], F, f, D, C, R, n, s, rfl, h, by omega, by omega⟩
  replace h13 := bI_n0.mp h13
  have e0 : leastsS P a b = nI (ctN (mlP P a.toNatClampNeg b) 1024) := by rw [leastsS, if_pos ⟨h4, h13⟩]
  obtain ⟨r, hr, rfl⟩ := ru_of h4
  obtain ⟨w, hw, rfl⟩ := b01 h13
  rw [nI_clamp (by omega)] at e0
  have e1 : lsW P r w (-1) = leastsS P (nI r) (nI w) := by rw [e0, lsW, if_pos rfl]
  refine go_t 0 rfl ?_
  refine go_c (d := 1498) rfl rfl (t52 (d := 1296) h hr) (fun v2 m2 hq2 => ?_)
  obtain ⟨g, F', D', C', R', n', s', rfl, rfl, h2, hL2, hg, hn2, hs2⟩ := hq2
  have hG := (h2.game hr hg).1
  have hn' := h2.2.1.2.2.2.2.2.2.2.1
  rcases (show w = 0 ∨ w = 1 by omega) with rfl | rfl
  · skip
    refine go_t 0 rfl ?_
    refine go_nx rfl ?_
    refine go_t 0 rfl ?_
    refine go_c (cmd_v2 rfl rfl hG.1.k rfl) rfl (t216 (d := 1497) (w := 0) hn' hG h.1.1.2.1 (by decide) (Or.inl rfl)) (fun v32 m32 hq32 => ?_)
    obtain ⟨rfl, Y, rfl⟩ := hq32
    refine go_t 0 rfl ?_
    refine go_ret rfl ?_
    exact ⟨by rw [← e1], F', f, _, _, _, _, _, rfl, h2.alloc, by omega, by omega⟩
  · skip
    refine go_t 0 rfl ?_
    refine go_nx rfl ?_
    refine go_t 0 rfl ?_
    refine go_c (cmd_v2 rfl rfl hG.1.k rfl) rfl (t216 (d := 1497) (w := 1) hn' hG h.1.1.2.1 (by decide) (Or.inl rfl)) (fun v32 m32 hq32 => ?_)
    obtain ⟨rfl, Y, rfl⟩ := hq32
    refine go_t 0 rfl ?_
    refine go_ret rfl ?_
    exact ⟨by rw [← e1], F', f, _, _, _, _, _, rfl, h2.alloc, by omega, by omega⟩
theorem co11 (a b i : Int32) : CoOK P P 55 [.int a, .int b, .int i] (.int (leastS P a b i)) := by
  intro xs F f L D C M R n s h
  refine ev_in rfl ?_
  refine go_t 0 rfl ?_
  refine go_f rfl rfl (t48 _) ?_
  refine go_br rfl (fun h4 => ?_) (fun h4 => ?_)
  · skip
    replace h4 := bI_0.mp h4
    refine go_t 0 rfl (go_ret rfl ?_)
    exact ⟨by rw [leastS, if_neg (fun q => h4 q.1)], F, f, D, C, R, n, s, rfl, h, by omega, by omega⟩
  replace h4 := bI_n0.mp h4
  refine go_t 0 rfl ?_
  refine go_f rfl rfl (t37 _ _ _) ?_
  refine go_br rfl (fun h13 => ?_) (fun h13 => ?_)
  · skip
    replace h13 := bI_0.mp h13
    refine go_t 0 rfl (go_ret rfl ?_)
    exact ⟨by rw [leastS, if_neg (fun q => h13 q.2.1)], F, f, D, C, R, n, s, rfl, h, by omega, by omega⟩
  replace h13 := bI_n0.mp h13
  refine go_t 0 rfl ?_
  refine go_br rfl (fun h17 => ?_) (fun h17 => ?_)
  · skip
    refine go_t 0 rfl (go_ret rfl ?_)
    exact ⟨by rw [leastS, if_neg (fun q => absurd q.2.2 (Int32.not_le.mpr h17))], F, f, D, C, R, n, s, rfl, h, by omega, by omega⟩
  have h17 := Int32.not_lt.mp h17
  have e0 : leastS P a b i = oi (ithN (mlP P a.toNatClampNeg b) i.toNatClampNeg 1024) := by rw [leastS, if_pos ⟨h4, h13, h17⟩]
  obtain ⟨r, hr, rfl⟩ := ru_of h4
  obtain ⟨w, hw, rfl⟩ := b01 h13
  rw [nI_clamp (by omega)] at e0
  have e1 : lsW P r w i = leastS P (nI r) (nI w) i := by
    rw [e0, lsW, if_neg (fun q => by rw [q] at h17; exact absurd h17 (by decide)), if_pos h17]
  refine go_t 0 rfl ?_
  refine go_c (d := 1498) rfl rfl (t52 (d := 1296) h hr) (fun v2 m2 hq2 => ?_)
  obtain ⟨g, F', D', C', R', n', s', rfl, rfl, h2, hL2, hg, hn2, hs2⟩ := hq2
  have hG := (h2.game hr hg).1
  have hn' := h2.2.1.2.2.2.2.2.2.2.1
  rcases (show w = 0 ∨ w = 1 by omega) with rfl | rfl
  · skip
    refine go_t 0 rfl ?_
    refine go_nx rfl ?_
    refine go_t 0 rfl ?_
    refine go_c (cmd_v2 rfl rfl hG.1.k rfl) rfl (t216 (d := 1497) (w := 0) hn' hG h.1.1.2.1 (by decide) (Or.inr h17)) (fun v36 m36 hq36 => ?_)
    obtain ⟨rfl, Y, rfl⟩ := hq36
    refine go_t 0 rfl ?_
    refine go_ret rfl ?_
    exact ⟨by rw [← e1], F', f, _, _, _, _, _, rfl, h2.alloc, by omega, by omega⟩
  · skip
    refine go_t 0 rfl ?_
    refine go_nx rfl ?_
    refine go_t 0 rfl ?_
    refine go_c (cmd_v2 rfl rfl hG.1.k rfl) rfl (t216 (d := 1497) (w := 1) hn' hG h.1.1.2.1 (by decide) (Or.inr h17)) (fun v36 m36 hq36 => ?_)
    obtain ⟨rfl, Y, rfl⟩ := hq36
    refine go_t 0 rfl ?_
    refine go_ret rfl ?_
    exact ⟨by rw [← e1], F', f, _, _, _, _, _, rfl, h2.alloc, by omega, by omega⟩
/-! odd -/
theorem fst_no {p : Nat → Bool} {k : Nat} (h : fst p k = none) (hp : p k = false) : fst p (k + 1) = none := by rw [fst, h]; dsimp only; rw [hp]; rfl
theorem fst_at {p : Nat → Bool} {k N : Nat} (h : fst p k = none) (hp : p k = true) (hk : k < N) : fst p N = some k := by
  have h1 : fst p (k + 1) = some k := by rw [fst, h]; dsimp only; rw [hp]; rfl
  have : ∀ j, fst p (k + 1 + j) = some k := by
    intro j
    induction j with
    | zero => exact h1
    | succ j ih => rw [← Nat.add_assoc, fst, ih]
  have h2 := this (N - (k + 1))
  rwa [show k + 1 + (N - (k + 1)) = N by omega] at h2
theorem fst_up {p : Nat → Bool} {k : Nat} (h : fst p k = none) : ∀ {N}, k ≤ N → (∀ j, k ≤ j → j < N → p j = false) → fst p N = none := by
  intro N hk hp
  induction hk with
  | refl => exact h
  | step hk ih => exact fst_no (ih fun j h1 h2 => hp j h1 (Nat.lt_succ_of_lt h2)) (hp _ hk (Nat.lt_succ_self _))
theorem fst_none {p : Nat → Bool} : ∀ {N}, fst p N = none → ∀ j, j < N → p j = false := by
  intro N
  induction N with
  | zero => intro _ j hj; omega
  | succ N ih =>
    intro h j hj
    rw [fst] at h
    cases hq : fst p N with
    | some x => rw [hq] at h; cases h
    | none =>
      rw [hq] at h
      dsimp only at h
      cases hp : p N with
      | true => rw [hp] at h; cases h
      | false =>
        rcases Nat.lt_succ_iff_lt_or_eq.mp hj with q | q
        · exact ih hq j q
        · subst q; exact hp
theorem fst_some {p : Nat → Bool} : ∀ {N x}, fst p N = some x → x < N ∧ p x = true ∧ fst p x = none := by
  intro N
  induction N with
  | zero => intro x h; cases h
  | succ N ih =>
    intro x h
    rw [fst] at h
    cases hq : fst p N with
    | some y =>
      rw [hq] at h
      cases h
      obtain ⟨a, b, c⟩ := ih hq
      exact ⟨by omega, b, c⟩
    | none =>
      rw [hq] at h
      dsimp only at h
      cases hp : p N with
      | true => rw [hp] at h; cases h; exact ⟨by omega, hp, hq⟩
      | false => rw [hp] at h; cases h
def odM (P : Nat → Nat → Int32) (r S m : Nat) : Bool := (iN P).testBit m && !decide (crP P r (S ||| 2 ^ m))
def odB (P : Nat → Nat → Int32) (r S : Nat) : Bool := decide (crP P r S) && (fst (odM P r S) 10).isSome
def oddV (b : Int32) (g : Nat → Option Nat) : Option Nat → Int32
  | none => -1
  | some S => if b = 0 then nI S else oi (g S)
def oddN (P : Nat → Nat → Int32) (r : Nat) (b : Int32) : Int32 := oddV b (fun S => fst (odM P r S) 10) (fst (odB P r) 1024)
theorem oddV_s {b : Int32} {g : Nat → Option Nat} {o : Option Nat} {S m : Nat} (h : o = some S) (h2 : g S = some m) : oddV b g o = if b = 0 then nI S else nI m := by
  subst h
  show (if b = 0 then nI S else oi (g S)) = _
  rw [h2]
  rfl
theorem oddN_at {r S m : Nat} {b : Int32} (h1 : fst (odB P r) S = none) (hS : S < 1024) (hc : crP P r S) (h2 : fst (odM P r S) m = none) (hm : odM P r S m = true) (h10 : m < 10) : oddN P r b = if b = 0 then nI S else nI m := by
  have e2 := fst_at h2 hm h10
  have e1 : odB P r S = true := by rw [odB, e2, decide_eq_true hc]; rfl
  exact oddV_s (fst_at h1 e1 hS) e2
theorem oddN_no {r : Nat} {b : Int32} (h : fst (odB P r) 1024 = none) : oddN P r b = -1 := by
  unfold oddN
  rw [h]
  rfl
theorem odB_no {r S : Nat} (h : ¬ crP P r S ∨ fst (odM P r S) 10 = none) : odB P r S = false := by
  rw [odB]
  rcases h with h | h
  · rw [decide_eq_false h]; rfl
  · rw [h]; exact Bool.and_false _
def wOdd (P : Nat → Nat → Int32) (a b : Int32) : Int32 := if (0 ≤ a ∧ a ≤ 3) ∧ (0 ≤ b ∧ b ≤ 1) then oddN P a.toNatClampNeg b else -1
theorem iN_mN (h : mN P ≤ 10) {m : Nat} (hb : (iN P).testBit m = true) : m < mN P := (inN_tb.mp hb).1
theorem mo13 (hV : VP P) (a b : Int32) : MoOK P P 142 [.int a, .int b] (.int (wOdd P a b)) := by
  intro L D C M R n s hP
  have hN := hV.1.2.1
  have hX := iN_lt hN
  have hX' : inN P (P 305 8) (P 305 9) (mN P) < 1024 := hX
  refine ev_in rfl ?_
  refine go_t 0 rfl ?_
  refine go_pM rfl rfl rfl rfl ?_
  refine go_t 0 rfl ?_
  refine go_f rfl rfl (t104 _) ?_
  refine go_br rfl (fun h10 => ?_) (fun h10 => ?_)
  · skip
    replace h10 := bI_0.mp h10
    refine go_t 0 rfl ?_
    refine go_ret rfl ?_
    exact ⟨by rw [wOdd, if_neg (fun q => h10 q.1)], _, rfl, (pr_wr rfl).trans hP⟩
  replace h10 := bI_n0.mp h10
  refine go_t 0 rfl ?_
  refine go_f rfl rfl (t92 _ _ _ _) ?_
  refine go_br rfl (fun h20 => ?_) (fun h20 => ?_)
  rotate_left
  · skip
    replace h20 := bI_0.mp (Decidable.not_not.mp h20)
    refine go_t 0 rfl ?_
    refine go_ret rfl ?_
    exact ⟨by rw [wOdd, if_neg (fun q => h20 q.2)], _, rfl, (pr_wr rfl).trans hP⟩
  replace h20 := bI_n0.mp h20
  have e0 : wOdd P a b = oddN P a.toNatClampNeg b := by rw [wOdd, if_pos ⟨h10, h20⟩]
  obtain ⟨r, hr, rfl⟩ := ru_of h10
  rw [nI_clamp (by omega)] at e0
  rw [e0]
  refine go_t 0 rfl ?_
  refine go_c rfl rfl (t134 (d := 1493) ((pr_wr rfl).trans hP) hV.1 hV.2.1 hr) (fun v27 m27 hq27 => ?_)
  obtain ⟨rfl, M1, rfl, hF, hH, hc⟩ := hq27
  refine go_t 32 rfl ?_
  have hP1 : pr M1 = P := (hF.pr fun _ _ => wC_per).trans ((pr_wr rfl).trans hP)
  have e1 : M1 305 1 = nI (mN P) := (pr_rd hP1 rfl).trans hV.1.1
  refine go_for 1024 (fun k Lc m => ∃ x4, Lc = [some (.ref 305), some (.int (nI r)), some (.int b), some (.int (nI k)), x4] ∧ m = mk L D C M1 R n s ∧ fst (odB P r) k = none) ⟨none, rfl, rfl, rfl⟩ ?_ ?_
  · rintro k _ _ hk ⟨x4, rfl, rfl, hf⟩ kk
    have fin : ∀ x4, (¬ crP P r k ∨ fst (odM P r k) 10 = none) → Go 1499 142 114 [some (.ref 305), some (.int (nI r)), some (.int b), some (.int (nI k)), x4] [] (mk L D C M1 R n s) _ := fun x4 h => by
      refine go_t 32 rfl (kk _ _ ⟨x4, ?_, rfl, fst_no hf (odB_no h)⟩)
      rw [← nI_1]
    refine go_t 0 rfl ?_
    refine go_bf rfl (by exact (nI_ge hk (by decide))) ?_
    refine go_t 42 rfl ?_
    refine go_for (mN P) (fun j Lc m => Lc = [some (.ref 305), some (.int (nI r)), some (.int b), some (.int (nI k)), some (.int (nI j))] ∧ m = mk L D C M1 R n s ∧ fst (odM P r k) j = none) ⟨rfl, rfl, rfl⟩ ?_ ?_
    · rintro j _ _ hj ⟨rfl, rfl, hfj⟩ kj
      have fj : odM P r k j = false → Go 1499 142 108 [some (.ref 305), some (.int (nI r)), some (.int b), some (.int (nI k)), some (.int (nI j))] [] (mk L D C M1 R n s) _ := fun h => by
        refine go_t 42 rfl (kj _ _ ⟨?_, rfl, fst_no hfj h⟩)
        rw [← nI_1]
      have hor : k ||| 2 ^ j < 1024 := or_1024 hk (pow_1024 (by omega))
      refine go_t 0 rfl ?_
      refine go_gM rfl rfl rfl rfl ?_
      rw [e1]
      refine go_bf rfl (by exact (nI_ge hj (by omega))) ?_
      refine go_t 0 rfl ?_
      refine go_gR rfl rfl rfl rfl ?_
      refine go_t 0 rfl ?_
      refine go_aldM rfl rfl rfl rfl rfl (by omega) (by decide) ?_
      rw [hc k hk]
      refine go_br rfl (fun h57 => ?_) (fun h57 => ?_)
      · skip
        exact fin _ (Or.inl (bI_0.mp h57))
      · skip
        refine go_t 0 rfl ?_
        refine go_gM rfl rfl rfl rfl ?_
        rw [hH.1]
        refine go_t 0 rfl ?_
        refine go_f rfl rfl (t97 _ _ _) ?_
        refine go_br rfl (fun h70 => ?_) (fun h70 => ?_)
        · skip
          replace h70 := bI_0.mp h70
          exact fj (by rw [odM, Bool.eq_false_iff.mpr (fun q => h70 ((bitI_1 (by omega) (by omega)).mpr q))]; rfl)
        · skip
          replace h70 := bI_n0.mp h70
          refine go_t 0 rfl ?_
          refine go_f rfl rfl (t97 _ _ _) ?_
          refine go_br rfl (fun h80 => ?_) (fun h80 => ?_)
          · skip
            replace h80 := bI_n0.mp h80
            refine fj ?_
            have hb := (bitI_1 (S := k) (k := j) (by omega) (by omega)).mp h80
            have hkk : k ||| 2 ^ j = k := by
              apply Nat.eq_of_testBit_eq
              intro i
              rw [Nat.testBit_or, Nat.testBit_two_pow]
              by_cases hi : j = i
              · subst hi; rw [hb]; rfl
              · rw [decide_eq_false hi, Bool.or_false]
            rw [odM, hkk, decide_eq_true (bI_n0.mp h57)]
            exact Bool.and_false _
          · skip
            replace h80 := bI_0.mp (Decidable.not_not.mp h80)
            refine go_t 0 rfl ?_
            refine go_gR rfl rfl rfl rfl ?_
            refine go_t 0 rfl ?_
            dsimp only
            refine go_aldM (k := k ||| 2 ^ j) rfl rfl rfl rfl (nI_with (by omega)) (by omega) (by decide) ?_
            rw [hc _ hor]
            refine go_br rfl (fun h94 => ?_) (fun h94 => ?_)
            · skip
              exact fj (by rw [odM, decide_eq_true (bI_n0.mp h94)]; exact Bool.and_false _)
            · skip
              replace h94 := Decidable.not_not.mp h94
              refine go_t 0 rfl ?_
              refine go_br rfl (fun h98 => ?_) (fun h98 => ?_)
              · skip
                refine go_t 0 rfl ?_
                refine go_ret rfl ?_
                refine ⟨?_, M1, rfl, hP1⟩
                rw [oddN_at hf hk (bI_n0.mp h57) hfj (by rw [odM, (bitI_1 (by omega) (by omega)).mp h70, decide_eq_false (bI_0.mp h94)]; rfl) (by omega), if_neg h98]
              · skip
                replace h98 := Decidable.not_not.mp h98
                refine go_t 0 rfl ?_
                refine go_ret rfl ?_
                refine ⟨?_, M1, rfl, hP1⟩
                rw [oddN_at hf hk (bI_n0.mp h57) hfj (by rw [odM, (bitI_1 (by omega) (by omega)).mp h70, decide_eq_false (bI_0.mp h94)]; rfl) (by omega), if_pos h98]
    · rintro _ _ ⟨rfl, rfl, hfj⟩
      refine go_t 0 rfl ?_
      refine go_gM rfl rfl rfl rfl ?_
      rw [e1]
      refine go_bt rfl (by exact (Int32.le_refl _)) ?_
      refine fin _ (Or.inr (fst_up hfj hN fun j h1 h2 => ?_))
      rw [odM, Bool.eq_false_iff.mpr (fun q => absurd (iN_mN hN q) (by omega))]
      rfl
  · rintro _ _ ⟨x4, rfl, rfl, hf⟩
    refine go_t 0 rfl ?_
    refine go_nx rfl ?_
    refine go_t 0 rfl ?_
    refine go_ret rfl ?_
    exact ⟨by rw [oddN_no hf], M1, rfl, hP1⟩
theorem co13 (a b : Int32) : CoOK P P 59 [.int a, .int b] (.int (wOdd P a b)) := by
  intro xs F f L D C M R n s h
  have hN := h.1.1.2.1
  have hX := iN_lt hN
  have hX' : inN P (P 305 8) (P 305 9) (mN P) < 1024 := hX
  refine ev_in rfl ?_
  refine go_t 0 rfl ?_
  refine go_f rfl rfl (t48 _) ?_
  refine go_br rfl (fun h4 => ?_) (fun h4 => ?_)
  · skip
    replace h4 := bI_0.mp h4
    refine go_t 0 rfl ?_
    refine go_ret rfl ?_
    exact ⟨by rw [wOdd, if_neg (fun q => h4 q.1)], F, f, D, C, R, n, s, rfl, h, by omega, by omega⟩
  replace h4 := bI_n0.mp h4
  refine go_t 0 rfl ?_
  refine go_f rfl rfl (t37 _ _ _) ?_
  refine go_br rfl (fun h13 => ?_) (fun h13 => ?_)
  rotate_left
  · skip
    replace h13 := bI_0.mp (Decidable.not_not.mp h13)
    refine go_t 0 rfl ?_
    refine go_ret rfl ?_
    exact ⟨by rw [wOdd, if_neg (fun q => h13 q.2)], F, f, D, C, R, n, s, rfl, h, by omega, by omega⟩
  replace h13 := bI_n0.mp h13
  have e0 : wOdd P a b = oddN P a.toNatClampNeg b := by rw [wOdd, if_pos ⟨h4, h13⟩]
  obtain ⟨r, hr, rfl⟩ := ru_of h4
  rw [nI_clamp (by omega)] at e0
  rw [e0]
  refine go_t 0 rfl ?_
  refine go_c (d := 1498) rfl rfl (t52 (d := 1296) h hr) (fun v2 m2 hq2 => ?_)
  obtain ⟨g, F', D', C', R', n', s', rfl, rfl, h2, hL2, hg, hn2, hs2⟩ := hq2
  obtain ⟨o, q1, q2, q3, q4, q5, q6, c, t, q7, q8, q9, q10, hc, q12⟩ := (h2.game hr hg).1
  have hcv : rf R' g 2 = some c := by rw [o.R]; exact q7
  refine go_t 27 rfl ?_
  refine go_for 1024 (fun k Lc m => ∃ x5, Lc = [some (.ref 281), some (.int (nI r)), some (.int b), some (.ref g), some (.int (nI k)), x5] ∧ m = mk L D' C' M R' n' s' ∧ fst (odB P r) k = none) ⟨none, rfl, rfl, rfl⟩ ?_ ?_
  · rintro k _ _ hk ⟨x5, rfl, rfl, hf⟩ kk
    have fin : ∀ x5, (¬ crP P r k ∨ fst (odM P r k) 10 = none) → Go 1499 59 101 [some (.ref 281), some (.int (nI r)), some (.int b), some (.ref g), some (.int (nI k)), x5] [] (mk L D' C' M R' n' s') _ := fun x5 h => by
      refine go_t 27 rfl (kk _ _ ⟨x5, ?_, rfl, fst_no hf (odB_no h)⟩)
      rw [← nI_1]
    refine go_t 0 rfl ?_
    refine go_bf rfl (by exact (nI_ge hk (by decide))) ?_
    refine go_t 38 rfl ?_
    refine go_for 10 (fun j Lc m => Lc = [some (.ref 281), some (.int (nI r)), some (.int b), some (.ref g), some (.int (nI k)), some (.int (nI j))] ∧ m = mk L D' C' M R' n' s' ∧ fst (odM P r k) j = none) ⟨rfl, rfl, rfl⟩ ?_ ?_
    · rintro j _ _ hj ⟨rfl, rfl, hfj⟩ kj
      have fj : odM P r k j = false → Go 1499 59 95 [some (.ref 281), some (.int (nI r)), some (.int b), some (.ref g), some (.int (nI k)), some (.int (nI j))] [] (mk L D' C' M R' n' s') _ := fun h => by
        refine go_t 38 rfl (kj _ _ ⟨?_, rfl, fst_no hfj h⟩)
        rw [← nI_1]
      have hor : k ||| 2 ^ j < 1024 := or_1024 hk (pow_1024 (by omega))
      refine go_t 0 rfl ?_
      refine go_bf rfl (by exact (nI_ge hj (by decide))) ?_
      refine go_t 0 rfl ?_
      refine go_gR rfl o.k rfl hcv ?_
      refine go_t 0 rfl ?_
      refine go_aldC (k := k) rfl q8.k q8.m rfl rfl (by omega) (by decide) ?_
      rw [hc k hk]
      refine go_br rfl (fun h52 => ?_) (fun h52 => ?_)
      · skip
        exact fin _ (Or.inl (bI_0.mp h52))
      · skip
        refine go_t 0 rfl ?_
        refine go_gI rfl o.k o.m rfl ?_
        rw [q4]
        refine go_t 0 rfl ?_
        dsimp only
        refine go_br rfl (fun h65 => ?_) (fun h65 => ?_)
        · skip
          exact fj (by rw [odM, Bool.eq_false_iff.mpr (fun q => h65 ((bit_n hX (by omega)).mpr q))]; rfl)
        · skip
          replace h65 := Decidable.not_not.mp h65
          refine go_t 0 rfl ?_
          refine go_gR rfl o.k rfl hcv ?_
          refine go_t 0 rfl ?_
          dsimp only
          refine go_aldC (k := k ||| 2 ^ j) rfl q8.k q8.m rfl (nI_with (by omega)) (by omega) (by decide) ?_
          rw [hc _ hor]
          refine go_br rfl (fun h80 => ?_) (fun h80 => ?_)
          · skip
            exact fj (by rw [odM, decide_eq_true (bI_n0.mp h80)]; exact Bool.and_false _)
          · skip
            replace h80 := Decidable.not_not.mp h80
            refine go_t 0 rfl ?_
            refine go_br rfl (fun h84 => ?_) (fun h84 => ?_)
            · skip
              refine go_t 0 rfl ?_
              refine go_ret rfl ?_
              refine ⟨?_, F', f, D', C', R', n', s', rfl, h2, by omega, by omega⟩
              rw [oddN_at hf hk (bI_n0.mp h52) hfj (by rw [odM, (bit_n hX (by omega)).mp h65, decide_eq_false (bI_0.mp h80)]; rfl) (by omega), if_neg h84]
            · skip
              replace h84 := Decidable.not_not.mp h84
              refine go_t 0 rfl ?_
              refine go_ret rfl ?_
              refine ⟨?_, F', f, D', C', R', n', s', rfl, h2, by omega, by omega⟩
              rw [oddN_at hf hk (bI_n0.mp h52) hfj (by rw [odM, (bit_n hX (by omega)).mp h65, decide_eq_false (bI_0.mp h80)]; rfl) (by omega), if_pos h84]
    · rintro _ _ ⟨rfl, rfl, hfj⟩
      refine go_t 0 rfl ?_
      refine go_nx rfl ?_
      exact fin _ (Or.inr hfj)
  · rintro _ _ ⟨x5, rfl, rfl, hf⟩
    refine go_t 0 rfl ?_
    refine go_nx rfl ?_
    refine go_t 0 rfl ?_
    refine go_ret rfl ?_
    exact ⟨by rw [oddN_no hf], F', f, D', C', R', n', s', rfl, h2, by omega, by omega⟩
/-! worth -/
abbrev hereP (P : Nat → Nat → Int32) (v : Int32) : Prop := 0 ≤ v ∧ v ≤ 9 ∧ (iN P).testBit v.toNatClampNeg = true
theorem here_n {v : Int32} (h : hereP P v) : ∃ j, j < 10 ∧ v = nI j ∧ (iN P).testBit j = true := by
  obtain ⟨j, hj, rfl⟩ := in_n 9 (N := 9) rfl ⟨h.1, h.2.1⟩
  have := h.2.2
  rw [nI_clamp (by omega)] at this
  exact ⟨j, by omega, rfl, this⟩
/-- isHere, the invariant kept -/
theorem t41c (h : CI trT xs P F f L D C R n) (v : Int32) : Ev (d + 5) 41 [.ref 281, .int v] (mk L D C M R n s) (Rt (fun w m' => w = some (.int (bI (hereP P v))) ∧ ∃ C', m' = mk L D C' M R n s ∧ CI trT xs P F f L D C' R n ∧ (hereP P v → Laid P C'))) := by
  have hX := iN_lt h.1.1.2.1
  refine ev_in rfl ?_
  refine go_t 0 rfl ?_
  refine go_f rfl rfl (t37 _ _ _) ?_
  refine go_br rfl (fun h7 => ?_) (fun h7 => ?_)
  · skip
    replace h7 := bI_0.mp h7
    refine go_t 0 rfl (go_ret rfl ?_)
    exact ⟨by rw [bI_f (fun q => h7 ⟨q.1, q.2.1⟩)], C, rfl, h, fun q => absurd ⟨q.1, q.2.1⟩ h7⟩
  · skip
    replace h7 := bI_n0.mp h7
    refine go_t 0 rfl ?_
    refine go_c rfl rfl (t42c h) (fun v11 m11 hq11 => ?_)
    obtain ⟨rfl, C1, rfl, h', hL⟩ := hq11
    refine go_gI rfl rfl rfl rfl ?_
    rw [hL.2.1]
    refine go_t 0 rfl ?_
    dsimp only
    refine go_br rfl (fun h22 => ?_) (fun h22 => ?_)
    · skip
      refine go_t 0 rfl (go_ret rfl ?_)
      refine ⟨?_, C1, rfl, h', fun _ => hL⟩
      rw [bI_f (fun q => ?_)]
      obtain ⟨j, hj, rfl, hb⟩ := here_n q
      exact h22 ((bit_n hX (by omega)).mpr hb)
    · skip
      replace h22 := Decidable.not_not.mp h22
      refine go_t 0 rfl ?_
      refine go_ret rfl ?_
      refine ⟨?_, C1, rfl, h', fun _ => hL⟩
      obtain ⟨j, hj, rfl⟩ := in_n 9 (N := 9) rfl h7
      rw [bI_t ⟨h7.1, h7.2, by rw [nI_clamp (by omega)]; exact (bit_n hX (by omega)).mp h22⟩]
noncomputable def bC (p : Prop) : Int32 := @bI p (Classical.propDecidable p)
theorem bC_t {p : Prop} (h : p) : bC p = 1 := @bI_t p (Classical.propDecidable p) h
theorem bC_f {p : Prop} (h : ¬ p) : bC p = 0 := @bI_f p (Classical.propDecidable p) h
theorem bC_bI {p : Prop} [Decidable p] : bI p = bC p := @bI_iff p p _ (Classical.propDecidable p) Iff.rfl
theorem bC_iff {p q : Prop} (h : p ↔ q) : bC p = bC q := @bI_iff p q (Classical.propDecidable p) (Classical.propDecidable q) h
theorem bC_01 {p : Prop} : bC p = 0 ∨ bC p = 1 := @bI_01 p (Classical.propDecidable p)
theorem bC_n0 {p : Prop} (h : ¬ bC p = 0) : bC p = 1 := bC_01.resolve_left h
theorem retOK_bC {p : Prop} : retOK 1 (bC p) = true := @retOK_bI p (Classical.propDecidable p)
def woV (x y : Int32) : Int32 := if x = 0 then (if y = 0 then 0 else 2) else (if y = 0 then 1 else 3)
/-- j is worth no more than i -/
abbrev woP (cr : Nat → Prop) (X i j : Nat) : Prop := ∀ S, S < 1024 → nsub S X = 0 → S.testBit i = false → S.testBit j = false → cr (S ||| 2 ^ j) → cr (S ||| 2 ^ i)
abbrev woK (cr : Nat → Prop) (X i j k : Nat) : Prop := ∀ S, S < k → nsub S X = 0 → S.testBit i = false → S.testBit j = false → cr (S ||| 2 ^ j) → cr (S ||| 2 ^ i)
theorem woK_s {cr : Nat → Prop} {X i j k : Nat} (h : woK cr X i j k) (hk : nsub k X = 0 → k.testBit i = false → k.testBit j = false → cr (k ||| 2 ^ j) → cr (k ||| 2 ^ i)) : woK cr X i j (k + 1) := fun S hS => by
  rcases Nat.lt_succ_iff_lt_or_eq.mp hS with q | q
  · exact h S q
  · subst q; exact hk
theorem t144 {cr : Nat → Prop} [DecidablePred cr] {X i j : Nat} (hX : X < 1024) (hi : i < 10) (hj : j < 10) (hm : M 305 12 = nI X) (hc : ∀ S, S < 1024 → M 322 S = bI (cr S)) : Ev (d + 1) 144 [.ref 305, .int (nI i), .int (nI j)] (mk L D C M R n s) (Rt (Is (some (.int (bI (woP cr X i j)))) (mk L D C M R n s))) := by
  refine ev_in rfl ?_
  refine go_t 2 rfl ?_
  refine go_for 1024 (fun k Lc m => Lc = [some (.ref 305), some (.int (nI i)), some (.int (nI j)), some (.int (nI k))] ∧ m = mk L D C M R n s ∧ woK cr X i j k) ⟨rfl, rfl, fun S hS => by omega⟩ ?_ ?_
  · rintro k _ _ hk ⟨rfl, rfl, hw⟩ kk
    have fin : (nsub k X = 0 → k.testBit i = false → k.testBit j = false → cr (k ||| 2 ^ j) → cr (k ||| 2 ^ i)) → Go (d + 1) 144 63 [some (.ref 305), some (.int (nI i)), some (.int (nI j)), some (.int (nI k))] [] (mk L D C M R n s) _ := fun h => by
      refine go_t 2 rfl (kk _ _ ⟨?_, rfl, woK_s hw h⟩)
      rw [← nI_1]
    have hor1 : k ||| 2 ^ j < 1024 := or_1024 hk (pow_1024 hj)
    have hor2 : k ||| 2 ^ i < 1024 := or_1024 hk (pow_1024 hi)
    have tb : ∀ {x : Nat}, x < 10 → ¬ bitI (nI k) (nI x) = 1 → k.testBit x = false := fun hx h => Bool.eq_false_iff.mpr fun q => h ((bitI_1 (by omega) (by omega)).mpr q)
    refine go_t 0 rfl ?_
    refine go_bf rfl (by exact (nI_ge hk (by decide))) ?_
    refine go_t 0 rfl ?_
    refine go_f rfl rfl (t126n hm hk) ?_
    refine go_br rfl (fun h14 => ?_) (fun h14 => ?_)
    · skip
      replace h14 := bI_0.mp h14
      exact fin (fun q => absurd q h14)
    · skip
      replace h14 := bI_n0.mp h14
      refine go_t 0 rfl ?_
      refine go_f rfl rfl (t97 _ _ _) ?_
      refine go_br rfl (fun h23 => ?_) (fun h23 => ?_)
      · skip
        replace h23 := bI_n0.mp h23
        exact fin (fun _ q => by rw [(bitI_1 (by omega) (by omega)).mp h23] at q; cases q)
      · skip
        replace h23 := bI_0.mp (Decidable.not_not.mp h23)
        refine go_t 0 rfl ?_
        refine go_f rfl rfl (t97 _ _ _) ?_
        refine go_br rfl (fun h32 => ?_) (fun h32 => ?_)
        · skip
          replace h32 := bI_n0.mp h32
          exact fin (fun _ _ q => by rw [(bitI_1 (by omega) (by omega)).mp h32] at q; cases q)
        · skip
          replace h32 := bI_0.mp (Decidable.not_not.mp h32)
          refine go_t 0 rfl ?_
          refine go_gR rfl rfl rfl rfl ?_
          refine go_t 0 rfl ?_
          dsimp only
          refine go_aldM (k := k ||| 2 ^ j) rfl rfl rfl rfl (nI_with hj) (by omega) (by decide) ?_
          rw [hc _ hor1]
          refine go_br rfl (fun h45 => ?_) (fun h45 => ?_)
          · skip
            exact fin (fun _ _ _ q => absurd q (bI_0.mp h45))
          · skip
            refine go_t 0 rfl ?_
            refine go_gR rfl rfl rfl rfl ?_
            refine go_t 0 rfl ?_
            dsimp only
            refine go_aldM (k := k ||| 2 ^ i) rfl rfl rfl rfl (nI_with hi) (by omega) (by decide) ?_
            rw [hc _ hor2]
            refine go_br rfl (fun h58 => ?_) (fun h58 => ?_)
            · skip
              exact fin (fun _ _ _ _ => bI_n0.mp h58)
            · skip
              replace h58 := Decidable.not_not.mp h58
              refine go_t 0 rfl ?_
              refine go_ret rfl ?_
              exact ⟨by rw [bI_f (fun q => bI_0.mp h58 (q k hk h14 (tb hi h23) (tb hj h32) (bI_n0.mp h45)))], rfl⟩
  · rintro _ _ ⟨rfl, rfl, hw⟩
    refine go_t 0 rfl ?_
    refine go_nx rfl ?_
    refine go_t 0 rfl ?_
    refine go_ret rfl ?_
    exact ⟨by rw [bI_t hw], rfl⟩
theorem t144c {cr : Nat → Prop} [DecidablePred cr] {X i j : Nat} (hX : X < 1024) (hi : i < 10) (hj : j < 10) (hm : M 305 12 = nI X) (hc : ∀ S, S < 1024 → M 322 S = bI (cr S)) : Ev (d + 1) 144 [.ref 305, .int (nI i), .int (nI j)] (mk L D C M R n s) (Rt (Is (some (.int (bC (woP cr X i j)))) (mk L D C M R n s))) := by
  have := t144 (d := d) (L := L) (D := D) (C := C) (R := R) (n := n) (s := s) hX hi hj hm hc
  rw [bC_bI] at this
  exact this
theorem t221 {r g i j : Nat} (hG : GaR P F L D C R n r g) (hN : mN P ≤ 10) (hi : i < 10) (hj : j < 10) : Ev d 221 [.ref g, .int (nI i), .int (nI j)] (mk L D C M R n s) (Rt (Is (some (.int (bC (woP (crP P r) (iN P) i j)))) (mk L D C M R n s))) := by
  have hX := iN_lt hN
  have hX' : inN P (P 305 8) (P 305 9) (mN P) < 1024 := hX
  obtain ⟨o, q1, q2, q3, q4, q5, q6, c, t, q7, q8, q9, q10, hc, q12⟩ := hG
  have hcv : rf R g 2 = some c := by rw [o.R]; exact q7
  refine ev_in rfl ?_
  refine go_t 5 rfl ?_
  refine go_for 1024 (fun k Lc m => Lc = [some (.ref g), some (.int (nI i)), some (.int (nI j)), some (.int (bC (woK (crP P r) (iN P) i j k))), some (.int (nI k))] ∧ m = mk L D C M R n s) ⟨by rw [bC_t (fun S hS => by omega)]; rfl, rfl⟩ ?_ ?_
  · rintro k _ _ hk ⟨rfl, rfl⟩ kk
    have fin : ∀ v, v = bC (woK (crP P r) (iN P) i j (k + 1)) → Go d 221 73 [some (.ref g), some (.int (nI i)), some (.int (nI j)), some (.int v), some (.int (nI k))] [] (mk L D C M R n s) _ := fun v h => by
      subst h
      refine go_t 5 rfl (kk _ _ ⟨?_, rfl⟩)
      rw [← nI_1]
    have same : (nsub k (iN P) = 0 → k.testBit i = false → k.testBit j = false → crP P r (k ||| 2 ^ j) → crP P r (k ||| 2 ^ i)) → bC (woK (crP P r) (iN P) i j k) = bC (woK (crP P r) (iN P) i j (k + 1)) := fun h => bC_iff ⟨fun q => woK_s q h, fun q S hS => q S (by omega)⟩
    have hor1 : k ||| 2 ^ j < 1024 := or_1024 hk (pow_1024 hj)
    have hor2 : k ||| 2 ^ i < 1024 := or_1024 hk (pow_1024 hi)
    have e22 : nI k &&& (nI (iN P) ^^^ (-1)) = 0 ↔ nsub k (iN P) = 0 := by
      have : nsub k (iN P) ≤ k := nsub_le
      rw [nI_not, nI_zero (by omega)]
    have tb : ∀ {x : Nat}, x < 10 → (nI k >>> (nI x &&& 31) &&& 1 = 0 ↔ k.testBit x = false) := fun {x} hx => by
      have h1 := bitI_n (S := k) (k := x) (by omega) (by omega)
      unfold bitI at h1
      rw [h1, nI_zero (by omega), Nat.testBit_eq_decide_div_mod_eq]
      simp
    refine go_t 0 rfl ?_
    refine go_bf rfl (by exact (nI_ge hk (by decide))) ?_
    refine go_t 0 rfl ?_
    refine go_gI rfl o.k o.m rfl ?_
    rw [q4]
    refine go_t 0 rfl ?_
    dsimp only
    refine go_br rfl (fun h22 => ?_) (fun h22 => ?_)
    · skip
      exact fin _ (same (fun q => absurd (e22.mpr q) h22))
    · skip
      replace h22 := Decidable.not_not.mp h22
      refine go_t 0 rfl ?_
      dsimp only
      refine go_br rfl (fun h31 => ?_) (fun h31 => ?_)
      · skip
        exact fin _ (same (fun _ q => absurd ((tb hi).mpr q) h31))
      · skip
        replace h31 := Decidable.not_not.mp h31
        refine go_t 0 rfl ?_
        dsimp only
        refine go_br rfl (fun h40 => ?_) (fun h40 => ?_)
        · skip
          exact fin _ (same (fun _ _ q => absurd ((tb hj).mpr q) h40))
        · skip
          replace h40 := Decidable.not_not.mp h40
          refine go_t 0 rfl ?_
          refine go_gR rfl o.k rfl hcv ?_
          refine go_t 0 rfl ?_
          dsimp only
          refine go_aldC (k := k ||| 2 ^ j) rfl q8.k q8.m rfl (nI_with hj) (by omega) (by decide) ?_
          rw [hc _ hor1]
          refine go_br rfl (fun h54 => ?_) (fun h54 => ?_)
          · skip
            exact fin _ (same (fun _ _ _ q => absurd q (bI_0.mp h54)))
          · skip
            refine go_t 0 rfl ?_
            refine go_gR rfl o.k rfl hcv ?_
            refine go_t 0 rfl ?_
            dsimp only
            refine go_aldC (k := k ||| 2 ^ i) rfl q8.k q8.m rfl (nI_with hi) (by omega) (by decide) ?_
            rw [hc _ hor2]
            refine go_br rfl (fun h68 => ?_) (fun h68 => ?_)
            · skip
              exact fin _ (same (fun _ _ _ _ => bI_n0.mp h68))
            · skip
              replace h68 := Decidable.not_not.mp h68
              refine go_t 73 rfl ?_
              exact fin _ (by rw [bC_f (fun q => bI_0.mp h68 (q k (by omega) (e22.mp h22) ((tb hi).mp h31) ((tb hj).mp h40) (bI_n0.mp h54)))])
  · rintro _ _ ⟨rfl, rfl⟩
    refine go_t 0 rfl ?_
    refine go_nx rfl ?_
    refine go_t 0 rfl ?_
    refine go_rtb rfl retOK_bC ?_
    exact ⟨rfl, rfl⟩
noncomputable def wWorth (P : Nat → Nat → Int32) (a b c : Int32) : Int32 := if (0 ≤ a ∧ a ≤ 3) ∧ hereP P b ∧ hereP P c ∧ ¬ b = c then woV (bC (woP (crP P a.toNatClampNeg) (iN P) b.toNatClampNeg c.toNatClampNeg)) (bC (woP (crP P a.toNatClampNeg) (iN P) c.toNatClampNeg b.toNatClampNeg)) else -1
theorem co14 (a b c : Int32) : CoOK P P 60 [.int a, .int b, .int c] (.int (wWorth P a b c)) := by
  intro xs F f L D C M R n s h
  have hN := h.1.1.2.1
  refine ev_in rfl ?_
  refine go_t 0 rfl ?_
  refine go_f rfl rfl (t48 _) ?_
  refine go_br rfl (fun h4 => ?_) (fun h4 => ?_)
  · skip
    replace h4 := bI_0.mp h4
    refine go_t 0 rfl ?_
    refine go_ret rfl ?_
    exact ⟨by rw [wWorth, if_neg (fun q => h4 q.1)], F, f, D, C, R, n, s, rfl, h, by omega, by omega⟩
  replace h4 := bI_n0.mp h4
  refine go_t 0 rfl ?_
  refine go_c rfl rfl (t41c (d := 1493) h b) (fun v9 m9 hq9 => ?_)
  obtain ⟨rfl, C1, rfl, h1, hL1⟩ := hq9
  refine go_br rfl (fun h12 => ?_) (fun h12 => ?_)
  · skip
    replace h12 := bI_0.mp h12
    refine go_t 0 rfl ?_
    refine go_ret rfl ?_
    exact ⟨by rw [wWorth, if_neg (fun q => h12 q.2.1)], F, f, D, C1, R, n, s, rfl, h1, by omega, by omega⟩
  replace h12 := bI_n0.mp h12
  refine go_t 0 rfl ?_
  refine go_c rfl rfl (t41c (d := 1493) h1 c) (fun v17 m17 hq17 => ?_)
  obtain ⟨rfl, C2, rfl, h2, hL2⟩ := hq17
  refine go_br rfl (fun h20 => ?_) (fun h20 => ?_)
  · skip
    replace h20 := bI_0.mp h20
    refine go_t 0 rfl ?_
    refine go_ret rfl ?_
    exact ⟨by rw [wWorth, if_neg (fun q => h20 q.2.2.1)], F, f, D, C2, R, n, s, rfl, h2, by omega, by omega⟩
  replace h20 := bI_n0.mp h20
  refine go_t 0 rfl ?_
  refine go_br rfl (fun h25 => ?_) (fun h25 => ?_)
  rotate_left
  · skip
    replace h25 := Decidable.not_not.mp h25
    refine go_t 0 rfl ?_
    refine go_ret rfl ?_
    exact ⟨by rw [wWorth, if_neg (fun q => q.2.2.2 h25)], F, f, D, C2, R, n, s, rfl, h2, by omega, by omega⟩
  have e0 : wWorth P a b c = woV (bC (woP (crP P a.toNatClampNeg) (iN P) b.toNatClampNeg c.toNatClampNeg)) (bC (woP (crP P a.toNatClampNeg) (iN P) c.toNatClampNeg b.toNatClampNeg)) := by rw [wWorth, if_pos ⟨h4, h12, h20, h25⟩]
  obtain ⟨r, hr, rfl⟩ := ru_of h4
  obtain ⟨i, hi, rfl, hbi⟩ := here_n h12
  obtain ⟨j, hj, rfl, hbj⟩ := here_n h20
  rw [nI_clamp (by omega), nI_clamp (by omega), nI_clamp (by omega)] at e0
  refine go_t 0 rfl ?_
  refine go_c (d := 1498) rfl rfl (t52 (d := 1296) h2 hr) (fun v2 m2 hq2 => ?_)
  obtain ⟨g, F', D', C', R', n', s', rfl, rfl, h3, hL3, hg, hn2, hs2⟩ := hq2
  have hG := (h3.game hr hg).1
  have hG2 : ∀ d, Ev (d + 1) 52 [.ref 281, .int (nI r)] (mk L D' C' M R' n' s') (Rt (Is (some (.ref g)) (mk L D' C' M R' n' s'))) := fun d => by
    have e1 : rf R' 292 r = some g := by rw [rf_op rfl]; exact hg
    have hGo := hG.1
    refine ev_in rfl ?_
    refine go_t 0 rfl ?_
    refine go_gR rfl rfl rfl rfl ?_
    refine go_t 0 rfl ?_
    refine go_aald (k := r) rfl rfl rfl rfl (by omega) (by decide) e1 ?_
    refine go_ifnon rfl hGo.k rfl ?_
    refine go_t 0 rfl ?_
    refine go_gR rfl rfl rfl rfl ?_
    refine go_t 0 rfl ?_
    refine go_aald (k := r) rfl rfl rfl rfl (by omega) (by decide) e1 ?_
    refine go_ret rfl ?_
    exact ⟨rfl, rfl⟩
  refine go_t 0 rfl ?_
  refine go_f (cmd_v2 rfl rfl hG.1.k rfl) rfl (t221 hG hN hi hj) ?_
  refine go_br rfl (fun h40 => ?_) (fun h40 => ?_)
  · refine go_t 0 rfl ?_
    refine go_f (d := 1498) rfl rfl (hG2 1497) ?_
    refine go_t 0 rfl ?_
    refine go_f (cmd_v2 rfl rfl hG.1.k rfl) rfl (t221 hG hN hj hi) ?_
    refine go_br rfl (fun h58 => ?_) (fun h58 => ?_)
    · refine go_t 0 rfl (go_ret rfl ?_)
      exact ⟨by rw [e0, h40, h58]; rfl, F', f, D', C', R', n', s', rfl, h3, by omega, by omega⟩
    · refine go_t 0 rfl (go_ret rfl ?_)
      exact ⟨by rw [e0, h40, bC_n0 h58]; rfl, F', f, D', C', R', n', s', rfl, h3, by omega, by omega⟩
  · refine go_t 0 rfl ?_
    refine go_f (d := 1498) rfl rfl (hG2 1497) ?_
    refine go_t 0 rfl ?_
    refine go_f (cmd_v2 rfl rfl hG.1.k rfl) rfl (t221 hG hN hj hi) ?_
    refine go_br rfl (fun h58 => ?_) (fun h58 => ?_)
    · refine go_t 0 rfl (go_ret rfl ?_)
      exact ⟨by rw [e0, bC_n0 h40, h58]; rfl, F', f, D', C', R', n', s', rfl, h3, by omega, by omega⟩
    · refine go_t 0 rfl (go_ret rfl ?_)
      exact ⟨by rw [e0, bC_n0 h40, bC_n0 h58]; rfl, F', f, D', C', R', n', s', rfl, h3, by omega, by omega⟩
theorem mem_here {v : Int32} (hV : VP P) : hereP P v ↔ (0 ≤ v ∧ v < P 305 1) ∧ (iN P).testBit v.toNatClampNeg = true := by
  have h10 := hV.1.2.1
  constructor
  · intro h
    obtain ⟨j, hj, rfl, hb⟩ := here_n h
    refine ⟨⟨h.1, ?_⟩, h.2.2⟩
    rw [hV.1.1]
    exact nI_lt (iN_mN h10 hb) (by omega)
  · rintro ⟨⟨h1, h2⟩, h3⟩
    obtain ⟨j, hj, rfl⟩ := nI_of' h1
    rw [hV.1.1, nI_ltI hj (by omega)] at h2
    exact ⟨h1, nI_le (a := j) (b := 9) (by omega) (by decide), h3⟩
theorem mo14 (hV : VP P) (a b c : Int32) : MoOK P P 143 [.int a, .int b, .int c] (.int (wWorth P a b c)) := by
  intro L D C M R n s hP
  have hN := hV.1.2.1
  have hX := iN_lt hN
  have hX' : inN P (P 305 8) (P 305 9) (mN P) < 1024 := hX
  have e1 : wr M 305 0 0 305 1 = P 305 1 := pr_rd (a := 305) (k := 1) ((pr_wr rfl).trans hP) rfl
  refine ev_in rfl ?_
  refine go_t 0 rfl ?_
  refine go_pM rfl rfl rfl rfl ?_
  refine go_t 0 rfl ?_
  refine go_f rfl rfl (t104 _) ?_
  refine go_br rfl (fun h10 => ?_) (fun h10 => ?_)
  · skip
    replace h10 := bI_0.mp h10
    refine go_t 0 rfl ?_
    refine go_ret rfl ?_
    exact ⟨by rw [wWorth, if_neg (fun q => h10 q.1)], _, rfl, (pr_wr rfl).trans hP⟩
  replace h10 := bI_n0.mp h10
  refine go_t 0 rfl ?_
  refine go_f rfl rfl (t90' _) ?_
  refine go_br rfl (fun h18 => ?_) (fun h18 => ?_)
  · skip
    replace h18 := bI_0.mp h18
    refine go_t 0 rfl ?_
    refine go_ret rfl ?_
    exact ⟨by rw [wWorth, if_neg (fun q => h18 (by rw [e1]; exact ((mem_here hV).mp q.2.1).1))], _, rfl, (pr_wr rfl).trans hP⟩
  replace h18 := bI_n0.mp h18
  refine go_t 0 rfl ?_
  refine go_f rfl rfl (t90' _) ?_
  refine go_br rfl (fun h26 => ?_) (fun h26 => ?_)
  · skip
    replace h26 := bI_0.mp h26
    refine go_t 0 rfl ?_
    refine go_ret rfl ?_
    exact ⟨by rw [wWorth, if_neg (fun q => h26 (by rw [e1]; exact ((mem_here hV).mp q.2.2.1).1))], _, rfl, (pr_wr rfl).trans hP⟩
  replace h26 := bI_n0.mp h26
  refine go_t 0 rfl ?_
  refine go_br rfl (fun h31 => ?_) (fun h31 => ?_)
  rotate_left
  · skip
    replace h31 := Decidable.not_not.mp h31
    refine go_t 0 rfl ?_
    refine go_ret rfl ?_
    exact ⟨by rw [wWorth, if_neg (fun q => q.2.2.2 h31)], _, rfl, (pr_wr rfl).trans hP⟩
  rw [e1] at h18 h26
  refine go_t 0 rfl ?_
  obtain ⟨r, hr, rfl⟩ := ru_of h10
  obtain ⟨i, hi, rfl⟩ := nI_of' h18.1
  obtain ⟨j, hj, rfl⟩ := nI_of' h26.1
  have hi10 : i < 10 := by
    have := h18.2
    rw [hV.1.1, nI_ltI hi (by omega)] at this
    omega
  have hj10 : j < 10 := by
    have := h26.2
    rw [hV.1.1, nI_ltI hj (by omega)] at this
    omega
  have hbi : (iN P).testBit i = true ↔ hereP P (nI i) := by
    rw [mem_here hV, nI_clamp hi]
    exact ⟨fun q => ⟨h18, q⟩, fun q => q.2⟩
  have hbj : (iN P).testBit j = true ↔ hereP P (nI j) := by
    rw [mem_here hV, nI_clamp hj]
    exact ⟨fun q => ⟨h26, q⟩, fun q => q.2⟩
  have e0 : hereP P (nI i) → hereP P (nI j) → wWorth P (nI r) (nI i) (nI j) = woV (bC (woP (crP P r) (iN P) i j)) (bC (woP (crP P r) (iN P) j i)) := fun y1 y2 => by
    rw [wWorth, if_pos ⟨h10, y1, y2, h31⟩, nI_clamp (by omega), nI_clamp hi, nI_clamp hj]
  refine go_c (d := 1498) rfl rfl (t134 (d := 1493) ((pr_wr rfl).trans hP) hV.1 hV.2.1 hr) (fun v1 m1 hq1 => ?_)
  obtain ⟨rfl, M1, rfl, hF, hH, hc⟩ := hq1
  have hP1 : pr M1 = P := (hF.pr fun _ _ => wC_per).trans ((pr_wr rfl).trans hP)
  have w1 := t144c (d := 1497) (L := L) (D := D) (C := C) (R := R) (n := n) (s := s) (cr := crP P r) hX hi10 hj10 hH.1 hc
  have w2 := t144c (d := 1497) (L := L) (D := D) (C := C) (R := R) (n := n) (s := s) (cr := crP P r) hX hj10 hi10 hH.1 hc
  refine go_t 0 rfl ?_
  refine go_gM rfl rfl rfl rfl ?_
  rw [hH.1]
  refine go_t 0 rfl ?_
  refine go_f rfl rfl (t97 _ _ _) ?_
  refine go_br rfl (fun h50 => ?_) (fun h50 => ?_)
  · skip
    replace h50 := bI_0.mp h50
    refine go_t 0 rfl ?_
    refine go_ret rfl ?_
    refine ⟨?_, M1, rfl, hP1⟩
    rw [wWorth, if_neg (fun q => h50 ((bitI_1 (by omega) (by omega)).mpr (hbi.mpr q.2.1)))]
  replace h50 := bI_n0.mp h50
  refine go_t 0 rfl ?_
  refine go_gM rfl rfl rfl rfl ?_
  rw [hH.1]
  refine go_t 0 rfl ?_
  refine go_f rfl rfl (t97 _ _ _) ?_
  refine go_br rfl (fun h62 => ?_) (fun h62 => ?_)
  rotate_left
  · skip
    replace h62 := bI_0.mp (Decidable.not_not.mp h62)
    refine go_t 0 rfl ?_
    refine go_ret rfl ?_
    refine ⟨?_, M1, rfl, hP1⟩
    rw [wWorth, if_neg (fun q => h62 ((bitI_1 (by omega) (by omega)).mpr (hbj.mpr q.2.2.1)))]
  replace h62 := bI_n0.mp h62
  have e2 := e0 (hbi.mp ((bitI_1 (by omega) (by omega)).mp h50)) (hbj.mp ((bitI_1 (by omega) (by omega)).mp h62))
  refine go_t 0 rfl ?_
  refine go_f rfl rfl (w1) ?_
  refine go_br rfl (fun h73 => ?_) (fun h73 => ?_)
  · skip
    refine go_t 0 rfl ?_
    refine go_f rfl rfl (w2) ?_
    refine go_br rfl (fun h87 => ?_) (fun h87 => ?_)
    · skip
      refine go_t 0 rfl ?_
      dsimp only
      refine go_ret rfl ?_
      exact ⟨by rw [e2, h73, h87]; rfl, M1, rfl, hP1⟩
    · skip
      refine go_t 0 rfl ?_
      dsimp only
      refine go_ret rfl ?_
      exact ⟨by rw [e2, h73, bC_n0 h87]; rfl, M1, rfl, hP1⟩
  · skip
    refine go_t 0 rfl ?_
    refine go_f rfl rfl (w2) ?_
    refine go_br rfl (fun h87 => ?_) (fun h87 => ?_)
    · skip
      refine go_t 0 rfl ?_
      dsimp only
      refine go_ret rfl ?_
      exact ⟨by rw [e2, bC_n0 h73, h87]; rfl, M1, rfl, hP1⟩
    · skip
      refine go_t 0 rfl ?_
      dsimp only
      refine go_ret rfl ?_
      exact ⟨by rw [e2, bC_n0 h73, bC_n0 h87]; rfl, M1, rfl, hP1⟩
end O2
