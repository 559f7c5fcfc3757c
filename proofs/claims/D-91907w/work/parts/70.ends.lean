/-! WHAT A ROW COMES TO: DivisionHall's comes, the Model's ends -/
set_option maxRecDepth 100000
section OA
variable {d L n s : Nat} {D : Nat → Nat × Nat} {C M P : Nat → Nat → Int32} {R : Nat → Nat → Option Nat} {m : Mem} {xs : Nat → Int32} {F : Nat → Prop} {f : Nat → Nat}
def btB (P : Nat → Nat → Int32) (r x y : Nat) : Bool := decide (btP P r x y)
/-- by the row from place i on, q of them, if st stands: without sight, with it -/
def comF (bt : Nat → Nat → Bool) (rw : Nat → Nat) : Nat → Nat → Nat → Nat
  | 0, _, st => st
  | q + 1, i, st => comF bt rw q (i + 1) (bif bt (rw i) st then rw i else st)
def comT (bt : Nat → Nat → Bool) (rw : Nat → Nat) : Nat → Nat → Nat → Nat
  | 0, _, st => st
  | q + 1, i, st => bif !decide (comT bt rw q (i + 1) st = comT bt rw q (i + 1) (rw i)) && bt (comT bt rw q (i + 1) (rw i)) (comT bt rw q (i + 1) st) then comT bt rw q (i + 1) (rw i) else comT bt rw q (i + 1) st
def comS (bt : Nat → Nat → Bool) (rw : Nat → Nat) (sg : Nat) (q i st : Nat) : Nat := if sg = 0 then comF bt rw q i st else comT bt rw q i st
theorem comF_6 {bt : Nat → Nat → Bool} {rw : Nat → Nat} {n : Nat} (h : ∀ k, k < n → rw k < 6) : ∀ q i st, i + q ≤ n → st < 6 → comF bt rw q i st < 6 := by
  intro q
  induction q with
  | zero => intro i st _ h; exact h
  | succ q ih =>
    intro i st hi hst
    rw [comF]
    refine ih (i + 1) _ (by omega) ?_
    cases bt (rw i) st
    · exact hst
    · exact h i (by omega)
theorem comT_6 {bt : Nat → Nat → Bool} {rw : Nat → Nat} {n : Nat} (h : ∀ k, k < n → rw k < 6) : ∀ q i st, i + q ≤ n → st < 6 → comT bt rw q i st < 6 := by
  intro q
  induction q with
  | zero => intro i st _ h; exact h
  | succ q ih =>
    intro i st hi hst
    rw [comT]
    have h1 := ih (i + 1) st (by omega) hst
    have h2 := ih (i + 1) (rw i) (by omega) (h i (by omega))
    cases (!decide (comT bt rw q (i + 1) st = comT bt rw q (i + 1) (rw i)) && bt (comT bt rw q (i + 1) (rw i)) (comT bt rw q (i + 1) st))
    · exact h1
    · exact h2
/-- the row in DivisionHall's cells -/
def RowC (C : Nat → Nat → Int32) (rw : Nat → Nat) (n : Nat) : Prop := C 281 17 = nI n ∧ ∀ k, k < n → C 294 k = nI (rw k)
theorem RowC.fr {rw : Nat → Nat} {N : Nat} {C' : Nat → Nat → Int32} (h : RowC C rw N) (hf : ∀ a k, a < 337 → a ≠ 291 → wV a k = false → C' a k = C a k) : RowC C' rw N := by
  refine ⟨?_, fun k hk => ?_⟩
  · rw [hf _ _ (by decide) (by decide) rfl]; exact h.1
  · rw [hf _ _ (by decide) (by decide) rfl]; exact h.2 k hk
theorem t68F {r n0 s0 N : Nat} {rw : Nat → Nat} (hr : r < 4) (hN : N ≤ 6) (hrw : ∀ k, k < N → rw k < 6) : ∀ q i st D C R n s, i + q = N → st < 6 → BS xs P f L r n0 s0 D C R n s → RowC C rw N →
    Ev (d + 204 + q) 68 [.ref 281, .int (nI r), .int (nI st), .int (nI i), .int (nI 0)] (mk L D C M R n s) (Rt (fun v m' => v = some (.int (nI (comF (btB P r) rw q i st))) ∧ ∃ D' C' R' n' s', m' = mk L D' C' M R' n' s' ∧ BS xs P f L r n0 s0 D' C' R' n' s' ∧ (∀ a k, a < 337 → a ≠ 291 → wV a k = false → C' a k = C a k))) := by
  intro q
  induction q with
  | zero =>
    intro i st D C R n s hi hst hB hR
    rw [Nat.add_zero] at hi
    subst hi
    refine ev_in rfl ?_
    refine go_t 0 rfl ?_
    refine go_gI rfl rfl rfl rfl ?_
    rw [hR.1]
    refine go_bf rfl (by exact (not_not_intro rfl)) ?_
    refine go_t 0 rfl ?_
    refine go_ret rfl ?_
    exact ⟨rfl, D, C, R, n, s, rfl, hB, fun _ _ _ _ _ => rfl⟩
  | succ q ih =>
    intro i st D C R n s hi hst hB hR
    have hne : ¬ nI i = nI N := fun z => by
      have := (nI_eq (by omega) (by omega)).mp z
      omega
    have hri := hR.2 i (by omega)
    have hr6 := hrw i (by omega)
    refine ev_in rfl ?_
    have hbt := t69 (d := d + 1 + q) (M := M) hB hr hr6 hst
    rw [show d + 1 + q + 203 = d + 204 + q by omega] at hbt
    refine go_t 0 rfl ?_
    refine go_gI rfl rfl rfl rfl ?_
    rw [hR.1]
    refine go_bt rfl (by exact hne) ?_
    refine go_t 0 rfl ?_
    refine go_nx rfl ?_
    refine go_t 0 rfl ?_
    refine go_gR rfl rfl rfl rfl ?_
    refine go_t 0 rfl ?_
    refine go_aldC (k := i) rfl rfl rfl rfl rfl (by omega) (by decide) ?_
    rw [hri]
    refine go_t 0 rfl ?_
    refine go_c rfl rfl (hbt) (fun v26 m26 hq26 => ?_)
    obtain ⟨rfl, D1, C1, R1, n1, s1, rfl, hB1, hf1⟩ := hq26
    have hR1 := hR.fr hf1
    have hri1 := hR1.2 i (by omega)
    refine go_br rfl (fun h29 => ?_) (fun h29 => ?_)
    · refine go_t 0 rfl ?_
      dsimp only
      rw [nI_1]
      refine go_c (d := d + 204 + q) rfl rfl (ih (i + 1) st D1 C1 R1 n1 s1 (by omega) hst hB1 hR1) (fun v2 m2 hq2 => ?_)
      obtain ⟨rfl, D2, C2, R2, n2, s2, rfl, hB2, hf2⟩ := hq2
      refine go_ret rfl ?_
      refine ⟨?_, D2, C2, R2, n2, s2, rfl, hB2, fun a k h1 h2 h3 => by rw [hf2 a k h1 h2 h3, hf1 a k h1 h2 h3]⟩
      rw [comF, show btB P r (rw i) st = false from decide_eq_false (bI_0.mp h29)]
      rfl
    · refine go_t 0 rfl ?_
      refine go_gR rfl rfl rfl rfl ?_
      refine go_t 0 rfl ?_
      refine go_aldC (k := i) rfl rfl rfl rfl rfl (by omega) (by decide) ?_
      rw [hri1]
      refine go_t 0 rfl ?_
      dsimp only
      rw [nI_1]
      refine go_c (d := d + 204 + q) rfl rfl (ih (i + 1) (rw i) D1 C1 R1 n1 s1 (by omega) hr6 hB1 hR1) (fun v2 m2 hq2 => ?_)
      obtain ⟨rfl, D2, C2, R2, n2, s2, rfl, hB2, hf2⟩ := hq2
      refine go_ret rfl ?_
      refine ⟨?_, D2, C2, R2, n2, s2, rfl, hB2, fun a k h1 h2 h3 => by rw [hf2 a k h1 h2 h3, hf1 a k h1 h2 h3]⟩
      rw [comF, show btB P r (rw i) st = true from decide_eq_true (bI_n0.mp h29)]
      rfl
theorem t68T {r n0 s0 N : Nat} {rw : Nat → Nat} (hr : r < 4) (hN : N ≤ 6) (hrw : ∀ k, k < N → rw k < 6) : ∀ q i st D C R n s, i + q = N → st < 6 → BS xs P f L r n0 s0 D C R n s → RowC C rw N →
    Ev (d + 204 + q) 68 [.ref 281, .int (nI r), .int (nI st), .int (nI i), .int (nI 1)] (mk L D C M R n s) (Rt (fun v m' => v = some (.int (nI (comT (btB P r) rw q i st))) ∧ ∃ D' C' R' n' s', m' = mk L D' C' M R' n' s' ∧ BS xs P f L r n0 s0 D' C' R' n' s' ∧ (∀ a k, a < 337 → a ≠ 291 → wV a k = false → C' a k = C a k))) := by
  intro q
  induction q with
  | zero =>
    intro i st D C R n s hi hst hB hR
    rw [Nat.add_zero] at hi
    subst hi
    refine ev_in rfl ?_
    refine go_t 0 rfl ?_
    refine go_gI rfl rfl rfl rfl ?_
    rw [hR.1]
    refine go_bf rfl (by exact (not_not_intro rfl)) ?_
    refine go_t 0 rfl ?_
    refine go_ret rfl ?_
    exact ⟨rfl, D, C, R, n, s, rfl, hB, fun _ _ _ _ _ => rfl⟩
  | succ q ih =>
    intro i st D C R n s hi hst hB hR
    have hne : ¬ nI i = nI N := fun z => by
      have := (nI_eq (by omega) (by omega)).mp z
      omega
    have hr6 := hrw i (by omega)
    have c1 := comT_6 (bt := btB P r) hrw q (i + 1) st (by omega) hst
    have c2 := comT_6 (bt := btB P r) hrw q (i + 1) (rw i) (by omega) hr6
    refine ev_in rfl ?_
    refine go_t 0 rfl ?_
    refine go_gI rfl rfl rfl rfl ?_
    rw [hR.1]
    refine go_bt rfl (by exact hne) ?_
    refine go_t 0 rfl ?_
    refine go_nx rfl ?_
    refine go_t 0 rfl ?_
    dsimp only
    rw [nI_1]
    refine go_c (d := d + 204 + q) rfl rfl (ih (i + 1) st D C R n s (by omega) hst hB hR) (fun v1 m1 hq1 => ?_)
    obtain ⟨rfl, D1, C1, R1, n1, s1, rfl, hB1, hf1⟩ := hq1
    have hR1 := hR.fr hf1
    have hri1 := hR1.2 i (by omega)
    refine go_t 0 rfl ?_
    refine go_gR rfl rfl rfl rfl ?_
    refine go_t 0 rfl ?_
    refine go_aldC (k := i) rfl rfl rfl rfl rfl (by omega) (by decide) ?_
    rw [hri1]
    refine go_t 0 rfl ?_
    dsimp only
    rw [nI_1]
    refine go_c (d := d + 204 + q) rfl rfl (ih (i + 1) (rw i) D1 C1 R1 n1 s1 (by omega) hr6 hB1 hR1) (fun v2 m2 hq2 => ?_)
    obtain ⟨rfl, D2, C2, R2, n2, s2, rfl, hB2, hf2⟩ := hq2
    have hf12 : ∀ a k, a < 337 → a ≠ 291 → wV a k = false → C2 a k = C a k := fun a k h1 h2 h3 => by rw [hf2 a k h1 h2 h3, hf1 a k h1 h2 h3]
    refine go_t 0 rfl ?_
    refine go_br rfl (fun h83 => ?_) (fun h83 => ?_)
    · refine go_t 0 rfl (go_ret rfl ?_)
      refine ⟨?_, D2, C2, R2, n2, s2, rfl, hB2, hf12⟩
      rw [comT, decide_eq_true ((nI_eq (by omega) (by omega)).mp h83)]
      rfl
    · refine go_t 0 rfl ?_
      have hne2 : ¬ comT (btB P r) rw q (i + 1) st = comT (btB P r) rw q (i + 1) (rw i) := fun z => h83 (by rw [z])
      have hbt := t69 (d := d + 1 + q) (M := M) hB2 hr c2 c1
      rw [show d + 1 + q + 203 = d + 204 + q by omega] at hbt
      refine go_c (d := d + 204 + q) rfl rfl hbt (fun v3 m3 hq3 => ?_)
      obtain ⟨rfl, D3, C3, R3, n3, s3, rfl, hB3, hf3⟩ := hq3
      have hf13 : ∀ a k, a < 337 → a ≠ 291 → wV a k = false → C3 a k = C a k := fun a k h1 h2 h3 => by rw [hf3 a k h1 h2 h3, hf12 a k h1 h2 h3]
      refine go_br rfl (fun h95 => ?_) (fun h95 => ?_)
      · refine go_t 0 rfl (go_ret rfl ?_)
        refine ⟨?_, D3, C3, R3, n3, s3, rfl, hB3, hf13⟩
        rw [comT, show btB P r _ _ = false from decide_eq_false (bI_0.mp h95), Bool.and_false]
        rfl
      · refine go_t 0 rfl (go_ret rfl ?_)
        refine ⟨?_, D3, C3, R3, n3, s3, rfl, hB3, hf13⟩
        rw [comT, decide_eq_false hne2, show btB P r _ _ = true from decide_eq_true (bI_n0.mp h95)]
        rfl
/-- the row in the Model's cells -/
def RowM (M : Nat → Nat → Int32) (rw : Nat → Nat) (n : Nat) : Prop := M 305 40 = nI n ∧ ∀ k, k < n → M 326 k = nI (rw k)
theorem t157F {r N : Nat} {rw : Nat → Nat} (h1N : 1 ≤ N) (hN : N ≤ 6) (hrw : ∀ k, k < N → rw k < 6) (hne : ∀ i j, i < N → j < N → i ≠ j → rw i ≠ rw j) (hR : RowM M rw N) (hB : BtM P r M) : Ev d 157 [.ref 305, .int (nI 0)] (mk L D C M R n s) (Rt (Is (some (.int (nI (comF (btB P r) rw (N - 1) 1 (rw 0))))) (mk L D C M R n s))) := by
  have r0 := hR.2 0 (by omega)
  refine ev_in rfl ?_
  refine go_t 0 rfl ?_
  refine go_nx rfl ?_
  refine go_t 0 rfl ?_
  refine go_gR rfl rfl rfl rfl ?_
  refine go_t 0 rfl ?_
  refine go_aldM rfl rfl rfl rfl rfl (by decide) (by decide) ?_
  rw [r0]
  refine go_t 13 rfl ?_
  refine go_for (N - 1) (fun j Lc m => ∃ st x4 x5, Lc = [some (.ref 305), some (.int (nI 0)), some (.int (nI st)), some (.int (nI (j + 1))), x4, x5] ∧ m = mk L D C M R n s ∧ st < 6 ∧ (∃ i, i ≤ j ∧ st = rw i) ∧ comF (btB P r) rw (N - 1 - j) (j + 1) st = comF (btB P r) rw (N - 1) 1 (rw 0)) ⟨rw 0, none, none, rfl, rfl, hrw 0 (by omega), ⟨0, Nat.le_refl _, rfl⟩, rfl⟩ ?_ ?_
  · rintro j _ _ hj ⟨st, x4, x5, rfl, rfl, hst, ⟨i, hi, ei⟩, hc⟩ kk
    have rj := hR.2 (j + 1) (by omega)
    have rj6 := hrw (j + 1) (by omega)
    have hb := hB (rw (j + 1)) st rj6 hst
    have hdif : ¬ rw (j + 1) = st := by rw [ei]; exact hne _ _ (by omega) (by omega) (by omega)
    have ej : (6 : Int32) * nI (rw (j + 1)) + nI st = nI (6 * rw (j + 1) + st) := by rw [show (6 : Int32) * nI (rw (j + 1)) = nI (6 * rw (j + 1)) from pk_mul 6 _, nI_add]
    rw [show N - 1 - j = N - 1 - (j + 1) + 1 by omega, comF] at hc
    have fin : ∀ st', st' < 6 → (∃ i, i ≤ j + 1 ∧ st' = rw i) → comF (btB P r) rw (N - 1 - (j + 1)) (j + 1 + 1) st' = comF (btB P r) rw (N - 1) 1 (rw 0) → Go d 157 47 [some (.ref 305), some (.int (nI 0)), some (.int (nI st')), some (.int (nI (j + 1))), x4, x5] [] (mk L D C M R n s) _ := fun st' h1 h2 h3 => by
      refine go_t 13 rfl (kk _ _ ⟨st', x4, x5, ?_, rfl, h1, h2, h3⟩)
      rw [← nI_1 (j + 1)]
    refine go_t 0 rfl ?_
    refine go_gM rfl rfl rfl rfl ?_
    rw [hR.1]
    refine go_bf rfl (by exact (nI_ge (by omega) (by omega))) ?_
    refine go_t 0 rfl ?_
    refine go_gR rfl rfl rfl rfl ?_
    refine go_t 0 rfl ?_
    refine go_gR rfl rfl rfl rfl ?_
    refine go_t 0 rfl ?_
    refine go_aldM (k := j + 1) rfl rfl rfl rfl rfl (by omega) (by decide) ?_
    rw [rj]
    refine go_t 0 rfl ?_
    dsimp only
    refine go_aldM (k := 6 * rw (j + 1) + st) rfl rfl rfl rfl ej (by omega) (by decide) ?_
    rw [hb]
    refine go_br rfl (fun h37 => ?_) (fun h37 => ?_)
    · skip
      refine fin st hst ⟨i, by omega, ei⟩ ?_
      rw [show btB P r (rw (j + 1)) st = false from decide_eq_false (fun q => bI_0.mp h37 ⟨hdif, q⟩)] at hc
      exact hc
    · skip
      refine go_t 0 rfl ?_
      refine go_gR rfl rfl rfl rfl ?_
      refine go_t 0 rfl ?_
      refine go_aldM (k := j + 1) rfl rfl rfl rfl rfl (by omega) (by decide) ?_
      rw [rj]
      refine go_t 47 rfl ?_
      refine fin _ rj6 ⟨j + 1, Nat.le_refl _, rfl⟩ ?_
      rw [show btB P r (rw (j + 1)) st = true from decide_eq_true (bI_n0.mp h37).2] at hc
      exact hc
  · rintro _ _ ⟨st, x4, x5, rfl, rfl, hst, _, hc⟩
    rw [Nat.sub_self] at hc
    refine go_t 0 rfl ?_
    refine go_gM rfl rfl rfl rfl ?_
    rw [hR.1]
    refine go_bt rfl (by exact (nI_le (by omega) (by omega))) ?_
    refine go_t 0 rfl ?_
    refine go_ret rfl ?_
    exact ⟨by rw [← hc]; rfl, rfl⟩
theorem t157T {r N : Nat} {rw : Nat → Nat} (h1N : 1 ≤ N) (hN : N ≤ 6) (hrw : ∀ k, k < N → rw k < 6) (hR : RowM M rw N) (hB : BtM P r M) : Ev d 157 [.ref 305, .int (nI 1)] (mk L D C M R n s) (Rt (fun v m' => v = some (.int (nI (comT (btB P r) rw (N - 1) 1 (rw 0)))) ∧ ∃ g, m' = mk L D C (fu M 327 g) R n s)) := by
  have ej : ∀ a b, (6 : Int32) * nI a + nI b = nI (6 * a + b) := fun a b => by rw [show (6 : Int32) * nI a = nI (6 * a) from pk_mul 6 a, nI_add]
  refine ev_in rfl ?_
  refine go_t 0 rfl ?_
  refine go_nx rfl ?_
  refine go_t 57 rfl ?_
  refine go_for 6 (fun k Lc m => ∃ g, Lc = [some (.ref 305), some (.int (nI 1)), some (.int (nI k)), none, none, none] ∧ m = mk L D C (fu M 327 g) R n s ∧ ∀ i, i < k → g (6 * N + i) = nI i) ⟨M 327, rfl, by rw [fu_id], fun i h => absurd h (by omega)⟩ ?_ ?_
  · rintro k _ _ hk ⟨g, rfl, rfl, hg⟩ kk
    have e40 : fu M 327 g 305 40 = nI N := hR.1
    refine go_t 0 rfl ?_
    refine go_bf rfl (by exact (nI_ge hk (by decide))) ?_
    refine go_t 0 rfl ?_
    refine go_gR rfl rfl rfl rfl ?_
    refine go_t 0 rfl ?_
    refine go_gM rfl rfl rfl rfl ?_
    rw [e40]
    refine go_t 0 rfl ?_
    dsimp only
    refine go_iastM (k := 6 * N + k) rfl rfl rfl (ej N k) (by omega) (by decide) ?_
    rw [wr_fuS]
    refine go_t 57 rfl ?_
    rw [nI_1]
    refine kk _ _ ⟨_, rfl, rfl, fun i hi => ?_⟩
    by_cases e : i = k
    · subst e; rw [fu_self]
    · rw [fu_ne (by omega)]; exact hg i (by omega)
  · rintro _ _ ⟨g, rfl, rfl, hg⟩
    have e40 : fu M 327 g 305 40 = nI N := hR.1
    have e1 : nI N - 1 = nI (N - 1) := by
      have : nI N - nI 1 = nI (N - 1) := pk_sub h1N
      exact this
    refine go_t 0 rfl ?_
    refine go_nx rfl ?_
    refine go_t 0 rfl ?_
    refine go_gM rfl rfl rfl rfl ?_
    rw [e40]
    refine go_t 91 rfl ?_
    dsimp only
    rw [e1]
    refine go_for (N - 1) (fun j Lc m => ∃ g x3 x4 x5, Lc = [some (.ref 305), some (.int (nI 1)), some (.int (nI (N - 1 - j))), x3, x4, x5] ∧ m = mk L D C (fu M 327 g) R n s ∧ ∀ i, i < 6 → g (6 * (N - j) + i) = nI (comT (btB P r) rw j (N - j) i)) ⟨g, none, none, none, rfl, rfl, fun i hi => hg i hi⟩ ?_ ?_
    · rintro j _ _ hj ⟨g, x3, x4, x5, rfl, rfl, hg⟩ kk
      obtain ⟨k, hk⟩ : ∃ k, N - 1 - j = k + 1 := ⟨N - 1 - j - 1, by omega⟩
      have hNj : N - j = k + 1 + 1 := by omega
      rw [hk]
      rw [hNj] at hg
      have rk := hR.2 (k + 1) (by omega)
      have rk6 := hrw (k + 1) (by omega)
      have gk := hg (rw (k + 1)) rk6
      have c2 := comT_6 (bt := btB P r) hrw j (k + 1 + 1) (rw (k + 1)) (by omega) rk6
      have e7 : (6 : Int32) * (nI (k + 1) + 1) = nI (6 * (k + 1 + 1)) := by rw [nI_1]; exact pk_mul 6 _
      refine go_t 0 rfl ?_
      refine go_bf rfl (by exact nI_nle (by omega) (by omega)) ?_
      refine go_t 0 rfl ?_
      refine go_gR rfl rfl rfl rfl ?_
      refine go_t 0 rfl ?_
      dsimp only
      refine go_gR rfl rfl rfl rfl ?_
      refine go_t 0 rfl ?_
      refine go_aldM (k := k + 1) rfl rfl rfl rfl rfl (by omega) (by decide) ?_
      rw [show fu M 327 g 326 (k + 1) = nI (rw (k + 1)) from rk]
      refine go_t 0 rfl ?_
      dsimp only
      refine go_aldM (k := 6 * (k + 1 + 1) + rw (k + 1)) rfl rfl rfl rfl (by rw [e7, nI_add]) (by omega) (by decide) ?_
      rw [fu_self, gk]
      refine go_t 117 rfl ?_
      refine go_for 6 (fun i Lc m => ∃ g' x5, Lc = [some (.ref 305), some (.int (nI 1)), some (.int (nI (k + 1))), some (.int (nI (comT (btB P r) rw j (k + 1 + 1) (rw (k + 1))))), some (.int (nI i)), x5] ∧ m = mk L D C (fu M 327 g') R n s ∧ (∀ i, i < 6 → g' (6 * (k + 1 + 1) + i) = nI (comT (btB P r) rw j (k + 1 + 1) i)) ∧ ∀ q, q < i → g' (6 * (k + 1) + q) = nI (comT (btB P r) rw (j + 1) (k + 1) q)) ⟨g, x5, rfl, rfl, hg, fun q h => absurd h (by omega)⟩ ?_ ?_
      · rintro i _ _ hi ⟨g', x5, rfl, rfl, hg1, hg2⟩ ki
        have gi := hg1 i hi
        have c1 := comT_6 (bt := btB P r) hrw j (k + 1 + 1) i (by omega) hi
        have hb : fu M 327 g' 325 (6 * comT (btB P r) rw j (k + 1 + 1) (rw (k + 1)) + comT (btB P r) rw j (k + 1 + 1) i) = _ := hB _ _ c2 c1
        have fin : ∀ x, x = comT (btB P r) rw (j + 1) (k + 1) i → Go d 157 178 [some (.ref 305), some (.int (nI 1)), some (.int (nI (k + 1))), some (.int (nI (comT (btB P r) rw j (k + 1 + 1) (rw (k + 1))))), some (.int (nI i)), some (.int (nI (comT (btB P r) rw j (k + 1 + 1) i)))] [.int (nI x), .int ((6 : Int32) * nI (k + 1) + nI i), .ref 327] (mk L D C (fu M 327 g') R n s) _ := fun x hx => by
          refine go_iastM (k := 6 * (k + 1) + i) rfl rfl rfl (ej _ _) (by omega) (by decide) ?_
          rw [wr_fuS]
          refine go_t 117 rfl ?_
          rw [nI_1]
          refine ki _ _ ⟨_, _, rfl, rfl, fun q hq => ?_, fun q hq => ?_⟩
          · rw [fu_ne (by omega)]; exact hg1 q hq
          · by_cases e : q = i
            · subst e; rw [fu_self, hx]
            · rw [fu_ne (by omega)]; exact hg2 q (by omega)
        refine go_t 0 rfl ?_
        refine go_bf rfl (by exact (nI_ge hi (by decide))) ?_
        refine go_t 0 rfl ?_
        refine go_gR rfl rfl rfl rfl ?_
        refine go_t 0 rfl ?_
        dsimp only
        refine go_aldM (k := 6 * (k + 1 + 1) + i) rfl rfl rfl rfl (by rw [e7, nI_add]) (by omega) (by decide) ?_
        rw [fu_self, gi]
        refine go_t 0 rfl ?_
        refine go_gR rfl rfl rfl rfl ?_
        refine go_t 0 rfl ?_
        dsimp only
        refine go_br rfl (fun h154 => ?_) (fun h154 => ?_)
        · skip
          refine go_t 178 rfl ?_
          exact fin _ (by rw [comT, decide_eq_true ((nI_eq (by omega) (by omega)).mp h154).symm]; rfl)
        · skip
          refine go_t 0 rfl ?_
          refine go_gR rfl rfl rfl rfl ?_
          refine go_t 0 rfl ?_
          dsimp only
          refine go_aldM (k := 6 * comT (btB P r) rw j (k + 1 + 1) (rw (k + 1)) + comT (btB P r) rw j (k + 1 + 1) i) rfl rfl rfl rfl (ej _ _) (by omega) (by decide) ?_
          rw [hb]
          refine go_br rfl (fun h169 => ?_) (fun h169 => ?_)
          · skip
            refine go_t 178 rfl ?_
            refine fin _ ?_
            have hne : ¬ comT (btB P r) rw j (k + 1 + 1) (rw (k + 1)) = comT (btB P r) rw j (k + 1 + 1) i := fun z => h154 (by rw [z])
            rw [comT, show btB P r (comT (btB P r) rw j (k + 1 + 1) (rw (k + 1))) (comT (btB P r) rw j (k + 1 + 1) i) = false from decide_eq_false (fun q => bI_0.mp h169 ⟨hne, q⟩), Bool.and_false]
            rfl
          · skip
            refine go_t 178 rfl ?_
            refine fin _ ?_
            have hne : ¬ comT (btB P r) rw j (k + 1 + 1) i = comT (btB P r) rw j (k + 1 + 1) (rw (k + 1)) := fun z => h154 (by rw [z])
            rw [comT, decide_eq_false hne, show btB P r (comT (btB P r) rw j (k + 1 + 1) (rw (k + 1))) (comT (btB P r) rw j (k + 1 + 1) i) = true from decide_eq_true (bI_n0.mp h169).2]
            rfl
      · rintro _ _ ⟨g', x5, rfl, rfl, hg1, hg2⟩
        have e2 : N - (j + 1) = k + 1 := by omega
        have e3 : N - 1 - (j + 1) = k := by omega
        refine go_t 0 rfl ?_
        refine go_nx rfl ?_
        refine go_t 91 rfl ?_
        rw [pk_m1]
        refine kk _ _ ⟨g', _, _, x5, by rw [e3], rfl, fun i hi => by rw [e2]; exact hg2 i hi⟩
    · rintro _ _ ⟨g, x3, x4, x5, rfl, rfl, hg⟩
      have e0 : N - 1 - (N - 1) = 0 := by omega
      have e2 : N - (N - 1) = 1 := by omega
      rw [e0]
      rw [e2] at hg
      have r0 : fu M 327 g 326 0 = nI (rw 0) := hR.2 0 (by omega)
      have g0 := hg (rw 0) (hrw 0 (by omega))
      refine go_t 0 rfl ?_
      refine go_nx rfl ?_
      refine go_t 0 rfl ?_
      refine go_gR rfl rfl rfl rfl ?_
      refine go_t 0 rfl ?_
      refine go_gR rfl rfl rfl rfl ?_
      refine go_t 0 rfl ?_
      refine go_aldM rfl rfl rfl rfl rfl (by decide) (by decide) ?_
      rw [r0]
      refine go_t 0 rfl ?_
      dsimp only
      refine go_aldM (k := 6 * 1 + rw 0) rfl rfl rfl rfl (nI_add 6 (rw 0)) (by have := hrw 0 (by omega); omega) (by decide) ?_
      rw [fu_self, g0]
      refine go_ret rfl ?_
      exact ⟨rfl, g, rfl⟩
end OA
