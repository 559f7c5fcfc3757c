/-! OPERATION: best; the Model's table of who beats whom -/
set_option maxRecDepth 100000
section O9
variable {d L n s : Nat} {D : Nat → Nat × Nat} {C M P : Nat → Nat → Int32} {R : Nat → Nat → Option Nat} {m : Mem} {xs : Nat → Int32} {F : Nat → Prop} {f : Nat → Nat}
def wB (a k : Nat) : Bool := wF a k || Nat.beq a 321 || Nat.beq a 325
theorem wF_wB {a k : Nat} (h : wB a k = false) : wF a k = false := by
  simp only [wB, Bool.or_eq_false_iff] at h
  exact h.1.1
theorem wB_per {a k : Nat} (h : per a k = true) : wB a k = false := by
  simp only [wB, Bool.or_eq_false_iff]
  refine ⟨⟨wF_per h, ?_⟩, ?_⟩
  · cases hq : Nat.beq a 321 with
    | false => rfl
    | true => have := Nat.eq_of_beq_eq_true hq; subst this; exact absurd h (by simp [per])
  · cases hq : Nat.beq a 325 with
    | false => rfl
    | true => have := Nat.eq_of_beq_eq_true hq; subst this; exact absurd h (by simp [per])
/-- the table: a beats b -/
def BtM (P : Nat → Nat → Int32) (r : Nat) (M : Nat → Nat → Int32) : Prop := ∀ a b, a < 6 → b < 6 → M 325 (6 * a + b) = bI (¬ a = b ∧ btP P r a b)
theorem t156 {r : Nat} (hP : pr M = P) (hV : VP P) (hr : r < 4) : Ev (d + 5) 156 [.ref 305, .int (nI r)] (mk L D C M R n s) (Rt (fun v m' => v = none ∧ ∃ M', m' = mk L D C M' R n s ∧ Fm wB M M' ∧ HsV P M' ∧ BtM P r M')) := by
  have hN := hV.1.2.1
  refine ev_in rfl ?_
  refine go_t 0 rfl ?_
  refine go_c rfl rfl (t95 hP hV.1) (fun v1 m1 hq1 => ?_)
  obtain ⟨rfl, M1, rfl, hF, hH⟩ := hq1
  refine go_t 6 rfl ?_
  refine go_for 6 (fun a Lc m => ∃ x3 M', Lc = [some (.ref 305), some (.int (nI r)), some (.int (nI a)), x3] ∧ m = mk L D C M' R n s ∧ Fm wB M M' ∧ HsV P M' ∧ ∀ i j, i < a → j < 6 → M' 325 (6 * i + j) = bI (¬ i = j ∧ btP P r i j)) ⟨none, M1, rfl, rfl, hF.up fun _ _ => wF_wB, hH, fun i j h => absurd h (by omega)⟩ ?_ ?_
  · rintro a _ _ ha ⟨x3, M2, rfl, rfl, hF2, hH2, hb⟩ kk
    refine go_t 0 rfl ?_
    refine go_bf rfl (by exact (nI_ge ha (by decide))) ?_
    refine go_t 14 rfl ?_
    refine go_for 6 (fun b Lc m => ∃ M', Lc = [some (.ref 305), some (.int (nI r)), some (.int (nI a)), some (.int (nI b))] ∧ m = mk L D C M' R n s ∧ Fm wB M M' ∧ HsV P M' ∧ (∀ i j, i < a → j < 6 → M' 325 (6 * i + j) = bI (¬ i = j ∧ btP P r i j)) ∧ ∀ j, j < b → M' 325 (6 * a + j) = bI (¬ a = j ∧ btP P r a j)) ⟨M2, rfl, rfl, hF2, hH2, hb, fun j h => absurd h (by omega)⟩ ?_ ?_
    · rintro b _ _ hb6 ⟨M3, rfl, rfl, hF3, hH3, hb3, hc3⟩ kb
      have hP3 : pr M3 = P := (hF3.pr fun _ _ => wB_per).trans hP
      have hlt := sup_lt hN a b
      have ej : (6 : Int32) * nI a + nI b = nI (6 * a + b) := by rw [show (6 : Int32) * nI a = nI (6 * a) from pk_mul 6 a, nI_add]
      have fin : ∀ f (c : Prop) [Decidable c], (c ↔ (¬ a = b ∧ btP P r a b)) → Go (d + 5) 156 55 [some (.ref 305), some (.int (nI r)), some (.int (nI a)), some (.int (nI b))] [] (mk L D C (wr (fu M3 321 f) 325 (6 * a + b) (bI c)) R n s) _ := fun f c _ hc => by
        refine go_t 14 rfl (kb _ _ ⟨_, ?_, rfl, (hF3.fu fun _ => rfl).wr rfl, (hH3.fu (by decide) (by decide) (by decide)).wr (Or.inl (by decide)) (by decide) (by decide), fun i j hi hj => ?_, fun j hj => ?_⟩)
        · rw [← nI_1]
        · rw [wrk (by omega), fu_ne (by decide)]
          exact hb3 i j hi hj
        · by_cases e : j = b
          · subst e
            rw [wrs]
            exact bI_iff hc
          · rw [wrk (by omega), fu_ne (by decide)]
            exact hc3 j (by omega)
      have hbt : btP P r a b ↔ carP P (P 305 8) (P 305 9) r (supS P a b) := ⟨fun q => q.2, fun q => ⟨supN_sub, q⟩⟩
      refine go_t 0 rfl ?_
      refine go_bf rfl (by exact (nI_ge hb6 (by decide))) ?_
      refine go_t 0 rfl ?_
      refine go_gR rfl rfl rfl rfl ?_
      refine go_t 0 rfl ?_
      dsimp only
      refine go_br rfl (fun h32 => ?_) (fun h32 => ?_)
      · skip
        refine go_t 0 rfl ?_
        refine go_bastM (k := 6 * a + b) rfl rfl rfl rfl rfl ej (by omega) (by decide) ?_
        have := fin (M3 321) False ⟨False.elim, fun q => q.1 ((nI_eq (by omega) (by omega)).mp h32)⟩
        rw [fu_id] at this
        exact this
      · skip
        refine go_t 0 rfl ?_
        refine go_f rfl rfl (t152 hP3 hV hH3 ha hb6) ?_
        refine go_c rfl rfl (t127 hP3 hV.1 hV.2.1 hH3 hr hlt) (fun v43 m43 hq43 => ?_)
        obtain ⟨rfl, g, rfl⟩ := hq43
        refine go_br rfl (fun h46 => ?_) (fun h46 => ?_)
        · skip
          replace h46 := bI_0.mp h46
          refine go_t 0 rfl ?_
          refine go_bastM (k := 6 * a + b) rfl rfl rfl rfl rfl ej (by omega) (by decide) ?_
          exact fin g False ⟨False.elim, fun q => h46 (hbt.mp q.2)⟩
        · skip
          replace h46 := bI_n0.mp h46
          refine go_t 0 rfl ?_
          refine go_bastM (k := 6 * a + b) rfl rfl rfl rfl rfl ej (by omega) (by decide) ?_
          exact fin g True ⟨fun _ => ⟨fun q => h32 (by rw [q]), hbt.mpr h46⟩, fun _ => trivial⟩
    · rintro _ _ ⟨M3, rfl, rfl, hF3, hH3, hb3, hc3⟩
      refine go_t 0 rfl ?_
      refine go_nx rfl ?_
      refine go_t 6 rfl ?_
      rw [nI_1]
      refine kk _ _ ⟨_, M3, rfl, rfl, hF3, hH3, fun i j hi hj => ?_⟩
      by_cases e : i = a
      · subst e; exact hc3 j hj
      · exact hb3 i j (by omega) hj
  · rintro _ _ ⟨x3, M2, rfl, rfl, hF2, hH2, hb⟩
    refine go_t 0 rfl ?_
    refine go_nx rfl ?_
    refine go_ret rfl ?_
    exact ⟨rfl, M2, rfl, hF2, hH2, fun a b ha hb' => hb a b ha hb'⟩
/-- a motion that hinders x -/
def hiB (P : Nat → Nat → Int32) (r S x y : Nat) : Bool := !decide (y = x) && S.testBit y && !decide (btP P r x y)
def bsB (P : Nat → Nat → Int32) (r S x : Nat) : Bool := S.testBit x && (fst (hiB P r S x) 6).isNone
def bestO (P : Nat → Nat → Int32) (r S : Nat) : Option Nat := fst (bsB P r S) 6
def wBest (P : Nat → Nat → Int32) (a b : Int32) : Int32 := if (0 ≤ a ∧ a ≤ 3) ∧ (1 ≤ b ∧ b ≤ 63) then oi (bestO P a.toNatClampNeg b.toNatClampNeg) else -1
theorem bsB_no {r S x y : Nat} (h : S.testBit x = false ∨ (y < 6 ∧ hiB P r S x y = true)) : bsB P r S x = false := by
  unfold bsB
  rcases h with h | ⟨h, h2⟩
  · rw [h]; rfl
  · cases hf : fst (hiB P r S x) 6 with
    | none => rw [fst_none hf y h] at h2; cases h2
    | some z => exact Bool.and_false _
theorem bsB_yes {r S x : Nat} (h : S.testBit x = true) (h2 : fst (hiB P r S x) 6 = none) : bsB P r S x = true := by
  unfold bsB
  rw [h, h2]
  rfl
theorem set_n {b : Int32} (h : 1 ≤ b ∧ b ≤ 63) : ∃ S, S < 64 ∧ b = nI S := by
  obtain ⟨x, hx, e⟩ := in_n 63 (N := 63) rfl ⟨Int32.le_trans (by decide) h.1, h.2⟩
  exact ⟨x, by omega, e⟩
theorem mo21 (hV : VP P) (a b : Int32) : MoOK P P 161 [.int a, .int b] (.int (wBest P a b)) := by
  intro L D C M R n s hP
  have hN := hV.1.2.1
  refine ev_in rfl ?_
  refine go_t 0 rfl ?_
  refine go_pM rfl rfl rfl rfl ?_
  refine go_t 0 rfl ?_
  refine go_f rfl rfl (t104 _) ?_
  refine go_br rfl (fun h10 => ?_) (fun h10 => ?_)
  · skip
    replace h10 := bI_0.mp h10
    refine go_t 0 rfl ?_
    refine go_ret rfl ?_
    exact ⟨by rw [wBest, if_neg (fun q => h10 q.1)], _, rfl, (pr_wr rfl).trans hP⟩
  replace h10 := bI_n0.mp h10
  refine go_t 0 rfl ?_
  refine go_f rfl rfl (t92 _ _ _ _) ?_
  refine go_br rfl (fun h21 => ?_) (fun h21 => ?_)
  rotate_left
  · skip
    replace h21 := bI_0.mp (Decidable.not_not.mp h21)
    refine go_t 0 rfl ?_
    refine go_ret rfl ?_
    exact ⟨by rw [wBest, if_neg (fun q => h21 q.2)], _, rfl, (pr_wr rfl).trans hP⟩
  replace h21 := bI_n0.mp h21
  have e0 : wBest P a b = oi (bestO P a.toNatClampNeg b.toNatClampNeg) := by rw [wBest, if_pos ⟨h10, h21⟩]
  obtain ⟨r, hr, rfl⟩ := ru_of h10
  obtain ⟨S, hS, rfl⟩ := set_n h21
  rw [nI_clamp (by omega), nI_clamp (by omega)] at e0
  rw [e0]
  refine go_t 0 rfl ?_
  refine go_c rfl rfl (t156 (d := 1493) (P := P) ((pr_wr rfl).trans hP) hV hr) (fun v28 m28 hq28 => ?_)
  obtain ⟨rfl, M1, rfl, hF, hH, hB⟩ := hq28
  refine go_t 33 rfl ?_
  have hP1 : pr M1 = P := (hF.pr fun _ _ => wB_per).trans ((pr_wr rfl).trans hP)
  refine go_for 6 (fun x Lc m => ∃ x4 x5, Lc = [some (.ref 305), some (.int (nI r)), some (.int (nI S)), some (.int (nI x)), x4, x5] ∧ m = mk L D C M1 R n s ∧ fst (bsB P r S) x = none) ⟨none, none, rfl, rfl, rfl⟩ ?_ ?_
  · rintro x _ _ hx ⟨x4, x5, rfl, rfl, hf⟩ kk
    have nxt : ∀ x4 x5, bsB P r S x = false → Go 1499 161 109 [some (.ref 305), some (.int (nI r)), some (.int (nI S)), some (.int (nI x)), x4, x5] [] (mk L D C M1 R n s) (Rt (fun v m' => v = some (.int (oi (bestO P r S))) ∧ ∃ M', m' = mk L D C M' R n s ∧ pr M' = P)) := fun x4 x5 h => by
      refine go_t 33 rfl (kk _ _ ⟨x4, x5, ?_, rfl, fst_no hf h⟩)
      rw [← nI_1]
    have no : ∀ x5, bsB P r S x = false → Go 1499 161 102 [some (.ref 305), some (.int (nI r)), some (.int (nI S)), some (.int (nI x)), some (.int 0), x5] [] (mk L D C M1 R n s) (Rt (fun v m' => v = some (.int (oi (bestO P r S))) ∧ ∃ M', m' = mk L D C M' R n s ∧ pr M' = P)) := fun x5 h => by
      refine go_t 0 rfl ?_
      refine go_nx rfl ?_
      exact nxt _ _ h
    have yes : ∀ x5, bsB P r S x = true → Go 1499 161 102 [some (.ref 305), some (.int (nI r)), some (.int (nI S)), some (.int (nI x)), some (.int 1), x5] [] (mk L D C M1 R n s) (Rt (fun v m' => v = some (.int (oi (bestO P r S))) ∧ ∃ M', m' = mk L D C M' R n s ∧ pr M' = P)) := fun x5 h => by
      refine go_t 0 rfl ?_
      refine go_nx rfl ?_
      refine go_t 0 rfl ?_
      refine go_ret rfl ?_
      exact ⟨by rw [bestO, fst_at hf h hx]; rfl, M1, rfl, hP1⟩
    have no' : ∀ y, bsB P r S x = false → Go 1499 161 50 [some (.ref 305), some (.int (nI r)), some (.int (nI S)), some (.int (nI x)), some (.int 0), some (.int (nI y))] [] (mk L D C M1 R n s) (Rt (fun v m' => v = some (.int (oi (bestO P r S))) ∧ ∃ M', m' = mk L D C M' R n s ∧ pr M' = P)) := fun y h => by
      refine go_t 0 rfl ?_
      refine go_br rfl (fun h54 => ?_) (fun h54 => ?_)
      · skip
        exact no _ h
      · skip
        refine go_t 0 rfl ?_
        refine go_nx rfl ?_
        exact no _ h
    refine go_t 0 rfl ?_
    refine go_bf rfl (by exact (nI_ge hx (by decide))) ?_
    refine go_t 0 rfl ?_
    refine go_f rfl rfl (t97 _ _ _) ?_
    refine go_t 50 rfl ?_
    by_cases hbx : S.testBit x = true
    · rw [bI_t ((bitI_1 (by omega) (by omega)).mpr hbx)]
      refine go_for 6 (fun y Lc m => Lc = [some (.ref 305), some (.int (nI r)), some (.int (nI S)), some (.int (nI x)), some (.int 1), some (.int (nI y))] ∧ m = mk L D C M1 R n s ∧ fst (hiB P r S x) y = none) ⟨rfl, rfl, rfl⟩ ?_ ?_
      · rintro y _ _ hy ⟨rfl, rfl, hfy⟩ ky
        have ej : (6 : Int32) * nI x + nI y = nI (6 * x + y) := by rw [show (6 : Int32) * nI x = nI (6 * x) from pk_mul 6 x, nI_add]
        have go : hiB P r S x y = false → Go 1499 161 96 [some (.ref 305), some (.int (nI r)), some (.int (nI S)), some (.int (nI x)), some (.int 1), some (.int (nI y))] [] (mk L D C M1 R n s) _ := fun h => by
          refine go_t 50 rfl (ky _ _ ⟨?_, rfl, fst_no hfy h⟩)
          rw [← nI_1]
        refine go_t 0 rfl ?_
        refine go_bf rfl (by exact (nI_ge hy (by decide))) ?_
        refine go_t 0 rfl ?_
        refine go_nx rfl ?_
        refine go_t 0 rfl ?_
        refine go_br rfl (fun h65 => ?_) (fun h65 => ?_)
        · skip
          exact go (by unfold hiB; rw [decide_eq_true ((nI_eq (by omega) (by omega)).mp h65)]; rfl)
        · skip
          refine go_t 0 rfl ?_
          refine go_f rfl rfl (t97 _ _ _) ?_
          refine go_br rfl (fun h75 => ?_) (fun h75 => ?_)
          · skip
            replace h75 := bI_0.mp h75
            exact go (by unfold hiB; rw [Bool.eq_false_iff.mpr (fun q => h75 ((bitI_1 (by omega) (by omega)).mpr q)), Bool.and_false]; rfl)
          · skip
            replace h75 := bI_n0.mp h75
            refine go_t 0 rfl ?_
            refine go_gR rfl rfl rfl rfl ?_
            refine go_t 0 rfl ?_
            dsimp only
            refine go_aldM (k := 6 * x + y) rfl rfl rfl rfl ej (by omega) (by decide) ?_
            rw [hB x y hx hy]
            refine go_br rfl (fun h90 => ?_) (fun h90 => ?_)
            · skip
              exact go (by unfold hiB; rw [decide_eq_true (bI_n0.mp h90).2]; exact Bool.and_false _)
            · skip
              replace h90 := Decidable.not_not.mp h90
              refine go_t 96 rfl ?_
              have hne : ¬ y = x := fun q => h65 (by rw [q])
              have hb := (bitI_1 (S := S) (k := y) (by omega) (by omega)).mp h75
              have hi : hiB P r S x y = true := by
                unfold hiB
                rw [decide_eq_false hne, hb, decide_eq_false (fun q => bI_0.mp h90 ⟨fun z => hne z.symm, q⟩)]
                rfl
              refine go_t 50 rfl ?_
              rw [nI_1]
              exact no' _ (bsB_no (Or.inr ⟨hy, hi⟩))
      · rintro _ _ ⟨rfl, rfl, hfy⟩
        refine go_t 0 rfl ?_
        refine go_nx rfl ?_
        exact yes _ (bsB_yes hbx hfy)
    · rw [bI_f (fun q => hbx ((bitI_1 (by omega) (by omega)).mp q))]
      exact no' 0 (bsB_no (y := 0) (Or.inl (Bool.eq_false_iff.mpr hbx)))
  · rintro _ _ ⟨x4, x5, rfl, rfl, hf⟩
    refine go_t 0 rfl ?_
    refine go_nx rfl ?_
    refine go_t 0 rfl ?_
    refine go_ret rfl ?_
    exact ⟨by rw [bestO, hf]; rfl, M1, rfl, hP1⟩
theorem co21 (a b : Int32) : CoOK P P 72 [.int a, .int b] (.int (wBest P a b)) := by
  intro xs F f L D C M R n s h
  have hV := h.1
  have hN := hV.1.2.1
  refine ev_in rfl ?_
  refine go_t 0 rfl ?_
  refine go_f rfl rfl (t48 _) ?_
  refine go_br rfl (fun h4 => ?_) (fun h4 => ?_)
  · skip
    replace h4 := bI_0.mp h4
    refine go_t 0 rfl ?_
    refine go_ret rfl ?_
    exact ⟨by rw [wBest, if_neg (fun q => h4 q.1)], F, f, D, C, R, n, s, rfl, h, by omega, by omega⟩
  replace h4 := bI_n0.mp h4
  refine go_t 0 rfl ?_
  refine go_f rfl rfl (t37 _ _ _) ?_
  refine go_br rfl (fun h14 => ?_) (fun h14 => ?_)
  rotate_left
  · skip
    replace h14 := bI_0.mp (Decidable.not_not.mp h14)
    refine go_t 0 rfl ?_
    refine go_ret rfl ?_
    exact ⟨by rw [wBest, if_neg (fun q => h14 q.2)], F, f, D, C, R, n, s, rfl, h, by omega, by omega⟩
  replace h14 := bI_n0.mp h14
  have e0 : wBest P a b = oi (bestO P a.toNatClampNeg b.toNatClampNeg) := by rw [wBest, if_pos ⟨h4, h14⟩]
  obtain ⟨r, hr, rfl⟩ := ru_of h4
  obtain ⟨S, hS, rfl⟩ := set_n h14
  rw [nI_clamp (by omega), nI_clamp (by omega)] at e0
  rw [e0]
  refine go_t 21 rfl ?_
  refine go_for 6 (fun x Lc m => ∃ x4 x5 D' C' R' n' s', Lc = [some (.ref 281), some (.int (nI r)), some (.int (nI S)), some (.int (nI x)), x4, x5] ∧ m = mk L D' C' M R' n' s' ∧ BS xs P f L r n s D' C' R' n' s' ∧ fst (bsB P r S) x = none) ⟨none, none, D, C, R, n, s, rfl, rfl, BS.new h r, rfl⟩ ?_ ?_
  · rintro x _ _ hx ⟨x4, x5, D1, C1, R1, n1, s1, rfl, rfl, hB1, hf⟩ kk
    have nxt : ∀ x4 x5 D1 C1 R1 n1 s1, BS xs P f L r n s D1 C1 R1 n1 s1 → bsB P r S x = false → Go 1499 72 104 [some (.ref 281), some (.int (nI r)), some (.int (nI S)), some (.int (nI x)), x4, x5] [] (mk L D1 C1 M R1 n1 s1) (Rt (fun v m' => v = some (.int (oi (bestO P r S))) ∧ ∃ F' f' D' C' R' n' s', m' = mk L D' C' M R' n' s' ∧ CI trT xs P F' f' L D' C' R' n' ∧ n' ≤ n + 16000 ∧ s' ≤ s + 90000)) := fun x4 x5 D1 C1 R1 n1 s1 hB h => by
      refine go_t 21 rfl (kk _ _ ⟨x4, x5, D1, C1, R1, n1, s1, ?_, rfl, hB, fst_no hf h⟩)
      rw [← nI_1]
    have no : ∀ x5 D1 C1 R1 n1 s1, BS xs P f L r n s D1 C1 R1 n1 s1 → bsB P r S x = false → Go 1499 72 97 [some (.ref 281), some (.int (nI r)), some (.int (nI S)), some (.int (nI x)), some (.int 0), x5] [] (mk L D1 C1 M R1 n1 s1) (Rt (fun v m' => v = some (.int (oi (bestO P r S))) ∧ ∃ F' f' D' C' R' n' s', m' = mk L D' C' M R' n' s' ∧ CI trT xs P F' f' L D' C' R' n' ∧ n' ≤ n + 16000 ∧ s' ≤ s + 90000)) := fun x5 D1 C1 R1 n1 s1 hB h => by
      refine go_t 0 rfl ?_
      refine go_nx rfl ?_
      exact nxt _ _ _ _ _ _ _ hB h
    have yes : ∀ x5 D1 C1 R1 n1 s1, BS xs P f L r n s D1 C1 R1 n1 s1 → bsB P r S x = true → Go 1499 72 97 [some (.ref 281), some (.int (nI r)), some (.int (nI S)), some (.int (nI x)), some (.int 1), x5] [] (mk L D1 C1 M R1 n1 s1) (Rt (fun v m' => v = some (.int (oi (bestO P r S))) ∧ ∃ F' f' D' C' R' n' s', m' = mk L D' C' M R' n' s' ∧ CI trT xs P F' f' L D' C' R' n' ∧ n' ≤ n + 16000 ∧ s' ≤ s + 90000)) := fun x5 D1 C1 R1 n1 s1 hB h => by
      have hle := hB.le
      obtain ⟨F1, hC1, _⟩ := hB
      refine go_t 0 rfl ?_
      refine go_nx rfl ?_
      refine go_t 0 rfl ?_
      refine go_ret rfl ?_
      exact ⟨by rw [bestO, fst_at hf h hx]; rfl, F1, f, D1, C1, R1, n1, s1, rfl, hC1, by omega, by omega⟩
    have no' : ∀ y D1 C1 R1 n1 s1, BS xs P f L r n s D1 C1 R1 n1 s1 → bsB P r S x = false → Go 1499 72 46 [some (.ref 281), some (.int (nI r)), some (.int (nI S)), some (.int (nI x)), some (.int 0), some (.int (nI y))] [] (mk L D1 C1 M R1 n1 s1) (Rt (fun v m' => v = some (.int (oi (bestO P r S))) ∧ ∃ F' f' D' C' R' n' s', m' = mk L D' C' M R' n' s' ∧ CI trT xs P F' f' L D' C' R' n' ∧ n' ≤ n + 16000 ∧ s' ≤ s + 90000)) := fun y D1 C1 R1 n1 s1 hB h => by
      refine go_t 0 rfl ?_
      refine go_br rfl (fun h50 => ?_) (fun h50 => ?_)
      · skip
        exact no _ _ _ _ _ _ hB h
      · skip
        refine go_t 0 rfl ?_
        refine go_nx rfl ?_
        exact no _ _ _ _ _ _ hB h
    refine go_t 0 rfl ?_
    refine go_bf rfl (by exact (nI_ge hx (by decide))) ?_
    refine go_t 0 rfl ?_
    dsimp only
    refine go_br rfl (fun h33 => ?_) (fun h33 => ?_)
    · skip
      refine go_t 46 rfl ?_
      exact no' 0 _ _ _ _ _ hB1 (bsB_no (y := 0) (Or.inl (Bool.eq_false_iff.mpr (fun q => h33 ((bit_n (by omega) (by omega)).mpr q)))))
    replace h33 := Decidable.not_not.mp h33
    refine go_t 46 rfl ?_
    have hbx := (bit_n (S := S) (k := x) (by omega) (by omega)).mp h33
    refine go_for 6 (fun y Lc m => ∃ D' C' R' n' s', Lc = [some (.ref 281), some (.int (nI r)), some (.int (nI S)), some (.int (nI x)), some (.int 1), some (.int (nI y))] ∧ m = mk L D' C' M R' n' s' ∧ BS xs P f L r n s D' C' R' n' s' ∧ fst (hiB P r S x) y = none) ⟨D1, C1, R1, n1, s1, rfl, rfl, hB1, rfl⟩ ?_ ?_
    · rintro y _ _ hy ⟨D2, C2, R2, n2, s2, rfl, rfl, hB2, hfy⟩ ky
      have go : ∀ D2 C2 R2 n2 s2, BS xs P f L r n s D2 C2 R2 n2 s2 → hiB P r S x y = false → Go 1499 72 91 [some (.ref 281), some (.int (nI r)), some (.int (nI S)), some (.int (nI x)), some (.int 1), some (.int (nI y))] [] (mk L D2 C2 M R2 n2 s2) _ := fun D2 C2 R2 n2 s2 hB h => by
        refine go_t 46 rfl (ky _ _ ⟨D2, C2, R2, n2, s2, ?_, rfl, hB, fst_no hfy h⟩)
        rw [← nI_1]
      have tb : nI S >>> (nI y &&& 31) &&& 1 = 0 ↔ S.testBit y = false := by
        have h1 := bitI_n (S := S) (k := y) (by omega) (by omega)
        unfold bitI at h1
        rw [h1, nI_zero (by omega), Nat.testBit_eq_decide_div_mod_eq]
        simp
      refine go_t 0 rfl ?_
      refine go_bf rfl (by exact (nI_ge hy (by decide))) ?_
      refine go_t 0 rfl ?_
      refine go_nx rfl ?_
      refine go_t 0 rfl ?_
      refine go_br rfl (fun h61 => ?_) (fun h61 => ?_)
      · skip
        refine go_t 91 rfl ?_
        exact go _ _ _ _ _ hB2 (by unfold hiB; rw [decide_eq_true ((nI_eq (by omega) (by omega)).mp h61)]; rfl)
      · skip
        refine go_t 0 rfl ?_
        dsimp only
        refine go_br rfl (fun h70 => ?_) (fun h70 => ?_)
        · skip
          refine go_t 91 rfl ?_
          exact go _ _ _ _ _ hB2 (by unfold hiB; rw [tb.mp h70, Bool.and_false]; rfl)
        · skip
          refine go_t 0 rfl ?_
          refine go_c rfl rfl (t69 (d := 1295) hB2 hr hx hy) (fun v78 m78 hq78 => ?_)
          obtain ⟨rfl, D3, C3, R3, n3, s3, rfl, hB3, _⟩ := hq78
          refine go_br rfl (fun h81 => ?_) (fun h81 => ?_)
          · skip
            replace h81 := bI_0.mp h81
            refine go_t 91 rfl ?_
            have hne : ¬ y = x := fun q => h61 (by rw [q])
            have hb : S.testBit y = true := by cases hq : S.testBit y with
              | true => rfl
              | false => exact absurd (tb.mpr hq) h70
            have hi : hiB P r S x y = true := by
              unfold hiB
              rw [decide_eq_false hne, hb, decide_eq_false h81]
              rfl
            refine go_t 46 rfl ?_
            rw [nI_1]
            exact no' _ _ _ _ _ _ hB3 (bsB_no (Or.inr ⟨hy, hi⟩))
          · skip
            replace h81 := bI_n0.mp h81
            refine go_t 91 rfl ?_
            exact go _ _ _ _ _ hB3 (by unfold hiB; rw [decide_eq_true h81]; exact Bool.and_false _)
    · rintro _ _ ⟨D2, C2, R2, n2, s2, rfl, rfl, hB2, hfy⟩
      refine go_t 0 rfl ?_
      refine go_nx rfl ?_
      exact yes _ _ _ _ _ _ hB2 (bsB_yes hbx hfy)
  · rintro _ _ ⟨x4, x5, D1, C1, R1, n1, s1, rfl, rfl, hB1, hf⟩
    have hle := hB1.le
    obtain ⟨F1, hC1, _⟩ := hB1
    refine go_t 0 rfl ?_
    refine go_nx rfl ?_
    refine go_t 0 rfl ?_
    refine go_ret rfl ?_
    exact ⟨by rw [bestO, hf]; rfl, F1, f, D1, C1, R1, n1, s1, rfl, hC1, by omega, by omega⟩
end O9
