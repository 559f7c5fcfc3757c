/-! OPERATION: power -/
set_option maxRecDepth 100000
section O3
variable {d L n s : Nat} {D : Nat → Nat × Nat} {C M P : Nat → Nat → Int32} {R : Nat → Nat → Option Nat} {m : Mem} {xs : Nat → Int32} {F : Nat → Prop} {f : Nat → Nat}
def facN : Nat → Nat
  | 0 => 1
  | k + 1 => (k + 1) * facN k
theorem facN_le {k : Nat} (h : k ≤ 10) : facN k ≤ 3628800 := by
  have : ∀ k : Fin 11, facN k.val ≤ 3628800 := by decide
  exact this ⟨k, by omega⟩
theorem ord_s (k : Nat) (hk : k + 1 < 2 ^ 31) : lN (facN k) * (nI (k + 1)).toInt64 = lN (facN (k + 1)) := by
  rw [nI_l hk, lN_mul, Nat.mul_comm]
  rfl
theorem t57 {k : Nat} (hk : k ≤ 10) : Ev d 57 [.int (nI k)] m (Rt (Is (some (.long (lN (facN k)))) m)) := by
  refine ev_in rfl ?_
  refine go_t 4 rfl ?_
  refine go_for (k - 1) (fun j Lc m' => Lc = [some (.int (nI k)), some (.long (lN (facN (j + 1)))), none, some (.int (nI (j + 2)))] ∧ m' = m) ⟨rfl, rfl⟩ ?_ ?_
  · rintro j _ _ hj ⟨rfl, rfl⟩ kk
    refine go_t 0 rfl ?_
    refine go_bf rfl (by exact (nI_nlt (by omega) (by omega))) ?_
    refine go_t 4 rfl ?_
    dsimp only
    rw [ord_s (j + 1) (by omega), nI_1]
    exact kk _ _ ⟨rfl, rfl⟩
  · rintro _ _ ⟨rfl, rfl⟩
    have e : facN (k - 1 + 1) = facN k := by
      cases k with
      | zero => rfl
      | succ k => rfl
    refine go_t 0 rfl ?_
    refine go_bt rfl (by exact (nI_lt (by omega) (by omega))) ?_
    refine go_t 0 rfl ?_
    refine go_ret rfl ?_
    exact ⟨by rw [e], rfl⟩
theorem t140 {k : Nat} (hk : k ≤ 10) : Ev d 140 [.ref 305, .int (nI k)] m (Rt (Is (some (.long (lN (facN k)))) m)) := by
  refine ev_in rfl ?_
  refine go_t 5 rfl ?_
  refine go_for (k - 1) (fun j Lc m' => Lc = [some (.ref 305), some (.int (nI k)), some (.long (lN (facN (j + 1)))), none, some (.int (nI (j + 2)))] ∧ m' = m) ⟨rfl, rfl⟩ ?_ ?_
  · rintro j _ _ hj ⟨rfl, rfl⟩ kk
    refine go_t 0 rfl ?_
    refine go_bf rfl (by exact (nI_nlt (by omega) (by omega))) ?_
    refine go_t 5 rfl ?_
    dsimp only
    rw [ord_s (j + 1) (by omega), nI_1]
    exact kk _ _ ⟨rfl, rfl⟩
  · rintro _ _ ⟨rfl, rfl⟩
    have e : facN (k - 1 + 1) = facN k := by
      cases k with
      | zero => rfl
      | succ k => rfl
    refine go_t 0 rfl ?_
    refine go_bt rfl (by exact (nI_lt (by omega) (by omega))) ?_
    refine go_t 0 rfl ?_
    refine go_ret rfl ?_
    exact ⟨by rw [e], rfl⟩
theorem lcm0 {w : Nat} (h : w < 2 ^ 63) : lg_cmp (lN w) 0 = 0 ↔ w = 0 := by
  unfold lg_cmp
  have e : lN w = 0 ↔ w = 0 := pk_lEQ (b := 0) h (by decide)
  by_cases hw : w = 0
  · subst hw; decide
  · rw [if_neg (fun q : lN w = 0 => hw (e.mp q))] <;> skip
    simp only [hw, iff_false]
    split <;> decide
theorem t58 {v w : Nat} (hv : v < 2 ^ 63) (hw : w < 2 ^ 63) : Ev d 58 [.long (lN v), .long (lN w)] m (Rt (Is (some (.long (lN (Nat.gcd w v)))) m)) := by
  refine ev_in rfl ?_
  refine go_t 6 rfl ?_
  refine go_ind (k := w) (fun k Lc m' => ∃ a x8 x9, Lc = [some (.long (lN v)), none, some (.long (lN w)), none, some (.long (lN a)), none, some (.long (lN k)), none, x8, x9] ∧ m' = m ∧ a < 2 ^ 63 ∧ k < 2 ^ 63 ∧ Nat.gcd k a = Nat.gcd w v) ?_ ⟨v, none, none, rfl, rfl, hv, hw, rfl⟩
  rintro k _ _ ⟨a, x8, x9, rfl, rfl, ha, hk, hg⟩ kk
  have e0 := lcm0 hk
  by_cases h0 : k = 0
  · subst h0
    refine go_t 0 rfl ?_
    refine go_nx rfl ?_
    refine go_t 0 rfl ?_
    refine go_ret rfl ?_
    exact ⟨by rw [← hg, Nat.gcd_zero_left], rfl⟩
  · have hlt : a % k < k := Nat.mod_lt _ (by omega)
    have er : lN a - lN a / lN k * lN k = lN (a % k) := pk_lRem ha (by omega) hk
    have hne : ¬ lN k = 0 := fun q => h0 ((pk_lEQ (b := 0) hk (by decide)).mp q)
    refine go_t 0 rfl ?_
    refine go_bf rfl (by exact (fun q => h0 (e0.mp q))) ?_
    refine go_t 0 rfl ?_
    refine go_chk rfl hne ?_
    refine go_t 6 rfl ?_
    rw [er]
    exact kk _ _ _ hlt ⟨k, _, _, rfl, rfl, hk, by omega, by rw [← hg, Nat.gcd_rec k a]⟩
theorem t141 {v w : Nat} (hv : v < 2 ^ 63) (hw : w < 2 ^ 63) : Ev d 141 [.ref 305, .long (lN v), .long (lN w)] m (Rt (Is (some (.long (lN (Nat.gcd w v)))) m)) := by
  refine ev_in rfl ?_
  refine go_t 6 rfl ?_
  refine go_ind (k := w) (fun k Lc m' => ∃ a x8 x9, Lc = [some (.ref 305), some (.long (lN v)), none, some (.long (lN w)), none, some (.long (lN a)), none, some (.long (lN k)), none, x8, x9] ∧ m' = m ∧ a < 2 ^ 63 ∧ k < 2 ^ 63 ∧ Nat.gcd k a = Nat.gcd w v) ?_ ⟨v, none, none, rfl, rfl, hv, hw, rfl⟩
  rintro k _ _ ⟨a, x8, x9, rfl, rfl, ha, hk, hg⟩ kk
  have e0 := lcm0 hk
  by_cases h0 : k = 0
  · subst h0
    refine go_t 0 rfl ?_
    refine go_nx rfl ?_
    refine go_t 0 rfl ?_
    refine go_ret rfl ?_
    exact ⟨by rw [← hg, Nat.gcd_zero_left], rfl⟩
  · have hlt : a % k < k := Nat.mod_lt _ (by omega)
    have er : lN a - lN a / lN k * lN k = lN (a % k) := pk_lRem ha (by omega) hk
    have hne : ¬ lN k = 0 := fun q => h0 ((pk_lEQ (b := 0) hk (by decide)).mp q)
    refine go_t 0 rfl ?_
    refine go_bf rfl (by exact (fun q => h0 (e0.mp q))) ?_
    refine go_t 0 rfl ?_
    refine go_chk rfl hne ?_
    refine go_t 6 rfl ?_
    rw [er]
    exact kk _ _ _ hlt ⟨k, _, _, rfl, rfl, hk, by omega, by rw [← hg, Nat.gcd_rec k a]⟩
theorem pop_all : (List.range 1024).all (fun S => S == 0 || popS (S &&& (S - 1)) + 1 == popS S) = true := by decide +kernel
theorem pop_s {S : Nat} (h : S < 1024) (h0 : ¬ S = 0) : popS (S &&& (S - 1)) + 1 = popS S := by
  have := List.all_eq_true.mp pop_all S (List.mem_range.mpr h)
  simp only [Bool.or_eq_true, beq_iff_eq] at this
  exact this.resolve_left h0
theorem pcN_le (S : Nat) : ∀ k, pcN S k ≤ k := by
  intro k
  induction k with
  | zero => exact Nat.le_refl _
  | succ k ih => rw [pcN]; split <;> omega
theorem pop_le (S : Nat) : popS S ≤ 10 := pcN_le S 10
theorem t139 {S : Nat} (hS : S < 1024) : Ev d 139 [.ref 305, .int (nI S)] m (Rt (Is (some (.int (nI (popS S)))) m)) := by
  refine ev_in rfl ?_
  refine go_t 4 rfl ?_
  refine go_ind (k := S) (fun k Lc m' => ∃ c, Lc = [some (.ref 305), some (.int (nI S)), some (.int (nI c)), some (.int (nI k))] ∧ m' = m ∧ k < 1024 ∧ c + popS k = popS S) ?_ ⟨0, rfl, rfl, hS, by omega⟩
  rintro k _ _ ⟨c, rfl, rfl, hk, hc⟩ kk
  by_cases h0 : k = 0
  · subst h0
    have hc' : c = popS S := by rw [← hc]; rfl
    refine go_t 0 rfl ?_
    refine go_nx rfl ?_
    refine go_t 0 rfl ?_
    refine go_ret rfl ?_
    exact ⟨by rw [hc'], rfl⟩
  · have h1 := pop_s hk h0
    have h2 : k &&& (k - 1) ≤ k - 1 := Nat.and_le_right
    have e : nI k &&& (nI k - 1) = nI (k &&& (k - 1)) := by
      have e2 : nI k - nI 1 = nI (k - 1) := pk_sub (by omega)
      show nI k &&& (nI k - nI 1) = _
      rw [e2, nI_and]
    refine go_t 0 rfl ?_
    refine go_bf rfl (by exact (fun q => h0 ((nI_zero (by omega)).mp q))) ?_
    refine go_t 4 rfl ?_
    dsimp only
    rw [e, nI_1]
    exact kk _ _ _ (by omega) ⟨c + 1, rfl, rfl, by omega, by omega⟩
/-! swings and turns -/
abbrev swP (P : Nat → Nat → Int32) (r m S : Nat) : Prop := nsub S (iN P) = 0 ∧ S.testBit m = false ∧ ¬ crP P r S ∧ crP P r (S ||| 2 ^ m)
def swN (P : Nat → Nat → Int32) (r m : Nat) : Nat → Nat
  | 0 => 0
  | k + 1 => if swP P r m k then swN P r m k + 1 else swN P r m k
def tuN (P : Nat → Nat → Int32) (r m : Nat) : Nat → Nat
  | 0 => 0
  | k + 1 => if swP P r m k then tuN P r m k + facN (popS k) * facN (popS (iN P) - 1 - popS k) else tuN P r m k
theorem swN_le {r m : Nat} : ∀ k, swN P r m k ≤ k := by
  intro k
  induction k with
  | zero => exact Nat.le_refl _
  | succ k ih => rw [swN]; split <;> omega
theorem tuN_leC {r m c : Nat} (hc : ∀ k, facN (popS k) * facN (popS (iN P) - 1 - popS k) ≤ c) : ∀ k, tuN P r m k ≤ k * c := by
  intro k
  induction k with
  | zero => exact Nat.zero_le _
  | succ k ih =>
    rw [tuN, Nat.succ_mul]
    have h1 := hc k
    split
    · exact Nat.add_le_add ih h1
    · exact Nat.le_trans ih (Nat.le_add_right _ _)
theorem tuN_le {r m : Nat} : tuN P r m 1024 < 2 ^ 63 := by
  have h := tuN_leC (P := P) (r := r) (m := m) (c := 3628800 * 3628800) (fun k => Nat.mul_le_mul (facN_le (pop_le k)) (facN_le (by have := pop_le (iN P); omega))) 1024
  exact Nat.lt_of_le_of_lt h (Nat.le_of_ble_eq_true rfl)
theorem pc_sub {S X m : Nat} (h : nsub S X = 0) (hm : S.testBit m = false) (hX : X.testBit m = true) : ∀ k, pcN S k ≤ pcN X k ∧ (m < k → pcN S k + 1 ≤ pcN X k) := by
  intro k
  induction k with
  | zero => exact ⟨Nat.le_refl _, fun q => by omega⟩
  | succ k ih =>
    rw [pcN, pcN]
    by_cases hS : S.testBit k = true
    · have hX2 := nsub_0.mp h k hS
      rw [if_pos hS, if_pos hX2]
      refine ⟨by omega, fun q => ?_⟩
      have : m ≠ k := fun e => by rw [e, hS] at hm; cases hm
      have := ih.2 (by omega)
      omega
    · rw [if_neg hS]
      by_cases hX2 : X.testBit k = true
      · rw [if_pos hX2]
        exact ⟨by omega, fun _ => by omega⟩
      · rw [if_neg hX2]
        refine ⟨ih.1, fun q => ?_⟩
        have : m ≠ k := fun e => by rw [← e] at hX2; exact hX2 hX
        exact ih.2 (by omega)
theorem pop_sub {S X m : Nat} (h : nsub S X = 0) (hm : S.testBit m = false) (hX : X.testBit m = true) (h10 : m < 10) : popS S + 1 ≤ popS X := (pc_sub h hm hX 10).2 h10
/-- a swing of a game -/
theorem t219 {r g i k : Nat} (hG : GaR P F L D C R n r g) (hN : mN P ≤ 10) (hi : i < 10) (hk : k < 1024) : Ev d 219 [.ref g, .int (nI k), .int (nI i)] (mk L D C M R n s) (Rt (Is (some (.int (bI (k.testBit i = false ∧ ¬ crP P r k ∧ crP P r (k ||| 2 ^ i))))) (mk L D C M R n s))) := by
  obtain ⟨o, q1, q2, q3, q4, q5, q6, c, t, q7, q8, q9, q10, hc, q12⟩ := hG
  have hcv : rf R g 2 = some c := by rw [o.R]; exact q7
  have hor : k ||| 2 ^ i < 1024 := or_1024 hk (pow_1024 hi)
  have tb : nI k >>> (nI i &&& 31) &&& 1 = 0 ↔ k.testBit i = false := by
    have h1 := bitI_n (S := k) (k := i) (by omega) (by omega)
    unfold bitI at h1
    rw [h1, nI_zero (by omega), Nat.testBit_eq_decide_div_mod_eq]
    simp
  refine ev_in rfl ?_
  refine go_t 0 rfl ?_
  dsimp only
  refine go_br rfl (fun h5 => ?_) (fun h5 => ?_)
  · skip
    refine go_t 0 rfl ?_
    refine go_ret rfl ?_
    exact ⟨by rw [bI_f (fun q => h5 (tb.mpr q.1))], rfl⟩
  · skip
    replace h5 := Decidable.not_not.mp h5
    refine go_t 0 rfl ?_
    refine go_gR rfl o.k rfl hcv ?_
    refine go_t 0 rfl ?_
    refine go_aldC (k := k) rfl q8.k q8.m rfl rfl (by omega) (by decide) ?_
    rw [hc k hk]
    refine go_br rfl (fun h14 => ?_) (fun h14 => ?_)
    · skip
      refine go_t 0 rfl ?_
      refine go_ret rfl ?_
      exact ⟨by rw [bI_f (fun q => q.2.1 (bI_n0.mp h14))], rfl⟩
    · skip
      replace h14 := Decidable.not_not.mp h14
      refine go_t 0 rfl ?_
      refine go_gR rfl o.k rfl hcv ?_
      refine go_t 0 rfl ?_
      dsimp only
      refine go_aldC (k := k ||| 2 ^ i) rfl q8.k q8.m rfl (nI_with hi) (by omega) (by decide) ?_
      rw [hc _ hor]
      refine go_br rfl (fun h27 => ?_) (fun h27 => ?_)
      · skip
        refine go_t 0 rfl ?_
        refine go_ret rfl ?_
        exact ⟨by rw [bI_f (fun q => bI_0.mp h27 q.2.2)], rfl⟩
      · skip
        refine go_t 0 rfl ?_
        refine go_ret rfl ?_
        exact ⟨by rw [bI_t ⟨tb.mp h5, bI_0.mp h14, bI_n0.mp h27⟩], rfl⟩
theorem nsub_n {k X : Nat} (hk : k < 1024) : nI k &&& (nI X ^^^ (-1)) = 0 ↔ nsub k X = 0 := by
  have : nsub k X ≤ k := nsub_le
  rw [nI_not, nI_zero (by omega)]
theorem t218 {r g i : Nat} (hG : GaR P F L D C R n r g) (hN : mN P ≤ 10) (hi : i < 10) : Ev (d + 1) 218 [.ref g, .int (nI i)] (mk L D C M R n s) (Rt (Is (some (.int (nI (swN P r i 1024)))) (mk L D C M R n s))) := by
  have q4 := hG.2.2.2.2.1
  have o := hG.1
  refine ev_in rfl ?_
  refine go_t 4 rfl ?_
  refine go_for 1024 (fun k Lc m => Lc = [some (.ref g), some (.int (nI i)), some (.int (nI (swN P r i k))), some (.int (nI k))] ∧ m = mk L D C M R n s) ⟨rfl, rfl⟩ ?_ ?_
  · rintro k _ _ hk ⟨rfl, rfl⟩ kk
    have e20 := nsub_n (X := iN P) hk
    have fin : ∀ v, v = swN P r i (k + 1) → Go (d + 1) 218 39 [some (.ref g), some (.int (nI i)), some (.int (nI v)), some (.int (nI k))] [] (mk L D C M R n s) _ := fun v h => by
      subst h
      refine go_t 4 rfl (kk _ _ ⟨?_, rfl⟩)
      rw [← nI_1]
    have z : nI (swN P r i k) + 0 = nI (swN P r i k) := Int32.add_zero _
    refine go_t 0 rfl ?_
    refine go_bf rfl (by exact (nI_ge hk (by decide))) ?_
    refine go_t 0 rfl ?_
    refine go_gI rfl o.k o.m rfl ?_
    rw [q4]
    refine go_t 0 rfl ?_
    dsimp only
    refine go_br rfl (fun h20 => ?_) (fun h20 => ?_)
    · skip
      refine go_t 39 rfl ?_
      dsimp only
      rw [z]
      exact fin _ (by rw [swN, if_neg (fun q => h20 (e20.mpr q.1))])
    · skip
      replace h20 := Decidable.not_not.mp h20
      refine go_t 0 rfl ?_
      refine go_f (cmd_v2 rfl rfl o.k rfl) rfl (t219 hG hN hi hk) ?_
      refine go_br rfl (fun h29 => ?_) (fun h29 => ?_)
      · skip
        replace h29 := bI_0.mp h29
        refine go_t 39 rfl ?_
        dsimp only
        rw [z]
        exact fin _ (by rw [swN, if_neg (fun q => h29 q.2)])
      · skip
        replace h29 := bI_n0.mp h29
        refine go_t 39 rfl ?_
        dsimp only
        rw [nI_1]
        exact fin _ (by rw [swN, if_pos ⟨e20.mp h20, h29⟩])
  · rintro _ _ ⟨rfl, rfl⟩
    refine go_t 0 rfl ?_
    refine go_nx rfl ?_
    refine go_t 0 rfl ?_
    refine go_ret rfl ?_
    exact ⟨rfl, rfl⟩
theorem t220 {r g i : Nat} (hG : GaR P F L D C R n r g) (hN : mN P ≤ 10) (hi : i < 10) (hb : (iN P).testBit i = true) : Ev (d + 1) 220 [.ref g, .int (nI i)] (mk L D C M R n s) (Rt (Is (some (.long (lN (tuN P r i 1024)))) (mk L D C M R n s))) := by
  have q4 := hG.2.2.2.2.1
  have q5 := hG.2.2.2.2.2.1
  have o := hG.1
  refine ev_in rfl ?_
  refine go_t 5 rfl ?_
  refine go_for 1024 (fun k Lc m => ∃ x5, Lc = [some (.ref g), some (.int (nI i)), some (.long (lN (tuN P r i k))), none, some (.int (nI k)), x5] ∧ m = mk L D C M R n s) ⟨none, rfl, rfl⟩ ?_ ?_
  · rintro k _ _ hk ⟨x5, rfl, rfl⟩ kk
    have e20 := nsub_n (X := iN P) hk
    have fin : ∀ x5 v, v = tuN P r i (k + 1) → Go (d + 1) 220 66 [some (.ref g), some (.int (nI i)), some (.long (lN v)), none, some (.int (nI k)), x5] [] (mk L D C M R n s) _ := fun x5 v h => by
      subst h
      refine go_t 5 rfl (kk _ _ ⟨x5, ?_, rfl⟩)
      rw [← nI_1]
    have hp1 := pop_le k
    have hp2 := pop_le (iN P)
    refine go_t 0 rfl ?_
    refine go_bf rfl (by exact (nI_ge hk (by decide))) ?_
    refine go_t 0 rfl ?_
    refine go_gI rfl o.k o.m rfl ?_
    rw [q4]
    refine go_t 0 rfl ?_
    dsimp only
    refine go_br rfl (fun h22 => ?_) (fun h22 => ?_)
    · skip
      exact fin _ _ (by rw [tuN, if_neg (fun q => h22 (e20.mpr q.1))])
    replace h22 := Decidable.not_not.mp h22
    refine go_t 0 rfl ?_
    refine go_f (cmd_v2 rfl rfl o.k rfl) rfl (t219 hG hN hi hk) ?_
    refine go_br rfl (fun h32 => ?_) (fun h32 => ?_)
    rotate_left
    · skip
      replace h32 := bI_0.mp (Decidable.not_not.mp h32)
      refine go_t 66 rfl ?_
      exact fin _ _ (by rw [tuN, if_neg (fun q => h32 q.2)])
    replace h32 := bI_n0.mp h32
    have hps : popS k + 1 ≤ popS (iN P) := pop_sub (e20.mp h22) h32.1 hb hi
    have esub : nI (popS (iN P)) - 1 - nI (popS k) = nI (popS (iN P) - 1 - popS k) := by
      have e1 : nI (popS (iN P)) - nI 1 = nI (popS (iN P) - 1) := pk_sub (by omega)
      have e2 : nI (popS (iN P) - 1) - nI (popS k) = nI (popS (iN P) - 1 - popS k) := pk_sub (by omega)
      show nI (popS (iN P)) - nI 1 - nI (popS k) = _
      rw [e1, e2]
    refine go_t 0 rfl ?_
    refine go_f rfl rfl (t29 hk) ?_
    refine go_t 0 rfl ?_
    refine go_f rfl rfl (t57 hp1) ?_
    refine go_t 0 rfl ?_
    refine go_gI rfl o.k o.m rfl ?_
    rw [q5]
    refine go_t 0 rfl ?_
    dsimp only
    refine go_f rfl rfl ((by rw [esub]; exact t57 (by omega))) ?_
    refine go_t 66 rfl ?_
    dsimp only
    rw [lN_mul, lN_add]
    exact fin _ _ (by rw [tuN, if_pos ⟨e20.mp h22, h32⟩])
  · rintro _ _ ⟨x5, rfl, rfl⟩
    refine go_t 0 rfl ?_
    refine go_nx rfl ?_
    refine go_t 0 rfl ?_
    refine go_ret rfl ?_
    exact ⟨rfl, rfl⟩
/-! power itself -/
def belN (P : Nat → Nat → Int32) (w : Nat) : Nat := if w < 3 then 2 ^ (popS (iN P) - 1) else facN (popS (iN P))
def aboN (P : Nat → Nat → Int32) (r i w : Nat) : Nat := if w < 3 then swN P r i 1024 else tuN P r i 1024
def powN (P : Nat → Nat → Int32) (r i w : Nat) : Nat := if w = 0 then swN P r i 1024 else (if w % 2 = 1 then aboN P r i w else belN P w) / Nat.gcd (belN P w) (aboN P r i w)
def wPower (P : Nat → Nat → Int32) (a b c : Int32) : Int64 := if (0 ≤ a ∧ a ≤ 3) ∧ hereP P b ∧ (0 ≤ c ∧ c ≤ 4) then lN (powN P a.toNatClampNeg b.toNatClampNeg c.toNatClampNeg) else -1
theorem belN_pos (w : Nat) : 0 < belN P w := by
  unfold belN
  split
  · exact Nat.pow_pos (by decide)
  · have : ∀ k : Fin 11, 0 < facN k.val := by decide
    exact this ⟨popS (iN P), by have := pop_le (iN P); omega⟩
theorem belN_lt (w : Nat) : belN P w < 2 ^ 63 := by
  have hp := pop_le (iN P)
  unfold belN
  split
  · exact Nat.pow_lt_pow_right (by decide) (by omega)
  · exact Nat.lt_of_le_of_lt (facN_le hp) (Nat.le_of_ble_eq_true rfl)
theorem aboN_lt (r i w : Nat) : aboN P r i w < 2 ^ 63 := by
  unfold aboN
  split
  · exact Nat.lt_of_le_of_lt (swN_le 1024) (Nat.le_of_ble_eq_true rfl)
  · exact tuN_le
theorem shl_n {k : Nat} (h : k ≤ 10) : lcst 1 <<< ((nI (k - 1)).toInt64 &&& 63) = lN (2 ^ (k - 1)) := by
  have : ∀ k : Fin 11, lcst 1 <<< ((nI (k.val - 1)).toInt64 &&& 63) = lN (2 ^ (k.val - 1)) := by decide
  exact this ⟨k, by omega⟩
theorem pow_div {x g : Nat} (hx : x < 2 ^ 63) (h0 : 0 < g) (hg : g < 2 ^ 63) : lN x / lN g = lN (x / g) := pk_lDiv hx h0 hg
theorem gcd_ok (r i w : Nat) : 0 < Nat.gcd (belN P w) (aboN P r i w) ∧ Nat.gcd (belN P w) (aboN P r i w) < 2 ^ 63 := by
  have h1 := belN_pos (P := P) w
  have h2 := belN_lt (P := P) w
  exact ⟨Nat.gcd_pos_of_pos_left _ h1, Nat.lt_of_le_of_lt (Nat.gcd_le_left _ h1) h2⟩
theorem pow_1 {r i : Nat} : powN P r i 1 = aboN P r i 1 / Nat.gcd (belN P 1) (aboN P r i 1) := by unfold powN; rw [if_neg (by decide), if_pos (by decide)]
theorem pow_2 {r i : Nat} : powN P r i 2 = belN P 2 / Nat.gcd (belN P 2) (aboN P r i 2) := by unfold powN; rw [if_neg (by decide), if_neg (by decide)]
theorem pow_3 {r i : Nat} : powN P r i 3 = aboN P r i 3 / Nat.gcd (belN P 3) (aboN P r i 3) := by unfold powN; rw [if_neg (by decide), if_pos (by decide)]
theorem pow_4 {r i : Nat} : powN P r i 4 = belN P 4 / Nat.gcd (belN P 4) (aboN P r i 4) := by unfold powN; rw [if_neg (by decide), if_neg (by decide)]
theorem abo_lo {r i w : Nat} (h : w < 3) : aboN P r i w = swN P r i 1024 := by unfold aboN; rw [if_pos h]
theorem abo_hi {r i w : Nat} (h : ¬ w < 3) : aboN P r i w = tuN P r i 1024 := by unfold aboN; rw [if_neg h]
theorem bel_lo {w : Nat} (h : w < 3) : belN P w = 2 ^ (popS (iN P) - 1) := by unfold belN; rw [if_pos h]
theorem bel_hi {w : Nat} (h : ¬ w < 3) : belN P w = facN (popS (iN P)) := by unfold belN; rw [if_neg h]
theorem isLong {x : Int64} : (bif true then ∃ y, Value.long x = Value.long y else ∃ y, Value.long x = Value.int y) := ⟨x, rfl⟩
theorem co12 (a b c : Int32) : CoOK P P 56 [.int a, .int b, .int c] (.long (wPower P a b c)) := by
  intro xs F f L D C M R n s h
  have hN := h.1.1.2.1
  have hp := pop_le (iN P)
  refine ev_in rfl ?_
  refine go_t 0 rfl ?_
  refine go_f rfl rfl (t48 _) ?_
  refine go_br rfl (fun h4 => ?_) (fun h4 => ?_)
  · skip
    replace h4 := bI_0.mp h4
    refine go_t 0 rfl ?_
    refine go_ret rfl ?_
    exact ⟨by rw [wPower, if_neg (fun q => h4 q.1)]; rfl, F, f, D, C, R, n, s, rfl, h, by omega, by omega⟩
  replace h4 := bI_n0.mp h4
  refine go_t 0 rfl ?_
  refine go_c rfl rfl (t41c (d := 1493) h b) (fun v9 m9 hq9 => ?_)
  obtain ⟨rfl, C1, rfl, h1, hL1⟩ := hq9
  refine go_br rfl (fun h12 => ?_) (fun h12 => ?_)
  · skip
    replace h12 := bI_0.mp h12
    refine go_t 0 rfl ?_
    refine go_ret rfl ?_
    exact ⟨by rw [wPower, if_neg (fun q => h12 q.2.1)]; rfl, F, f, D, C1, R, n, s, rfl, h1, by omega, by omega⟩
  replace h12 := bI_n0.mp h12
  refine go_t 0 rfl ?_
  refine go_f rfl rfl (t37 _ _ _) ?_
  refine go_br rfl (fun h21 => ?_) (fun h21 => ?_)
  rotate_left
  · skip
    replace h21 := bI_0.mp (Decidable.not_not.mp h21)
    refine go_t 0 rfl ?_
    refine go_ret rfl ?_
    exact ⟨by rw [wPower, if_neg (fun q => h21 q.2.2)]; rfl, F, f, D, C1, R, n, s, rfl, h1, by omega, by omega⟩
  replace h21 := bI_n0.mp h21
  have e0 : wPower P a b c = lN (powN P a.toNatClampNeg b.toNatClampNeg c.toNatClampNeg) := by rw [wPower, if_pos ⟨h4, h12, h21⟩]
  obtain ⟨r, hr, rfl⟩ := ru_of h4
  obtain ⟨i, hi, rfl, hb⟩ := here_n h12
  obtain ⟨w, hw, rfl⟩ := in_n 4 (N := 4) rfl h21
  rw [nI_clamp (by omega), nI_clamp (by omega), nI_clamp (by omega)] at e0
  rw [e0]
  refine go_t 0 rfl ?_
  refine go_c (d := 1498) rfl rfl (t52 (d := 1296) h1 hr) (fun v2 m2 hq2 => ?_)
  obtain ⟨g, F', D', C', R', n', s', rfl, rfl, h2, hL2, hg, hn2, hs2⟩ := hq2
  have hG := (h2.game hr hg).1
  have q5 := hG.2.2.2.2.2.1
  have hpos : 1 ≤ popS (iN P) := by
    have := pop_sub (S := 0) (X := iN P) (m := i) (nsub_0.mpr fun j hj => by rw [Nat.zero_testBit] at hj; cases hj) (Nat.zero_testBit _) hb hi
    omega
  have es : nI (popS (iN P)) - 1 = nI (popS (iN P) - 1) := by
    have : nI (popS (iN P)) - nI 1 = nI (popS (iN P) - 1) := pk_sub (by omega)
    exact this
  have hsw := t218 (d := 1497) (M := M) (s := s') hG hN hi
  have htu := t220 (d := 1497) (M := M) (s := s') hG hN hi hb
  have hswl : (nI (swN P r i 1024)).toInt64 = lN (swN P r i 1024) := nI_l (by have := swN_le (P := P) (r := r) (m := i) 1024; omega)
  obtain ⟨g1, g2⟩ := gcd_ok (P := P) r i w
  have hgne : ¬ lN (Nat.gcd (belN P w) (aboN P r i w)) = 0 := fun q => by
    have := (pk_lEQ (b := 0) g2 (by decide)).mp q
    omega
  have hcom := t58 (d := 1498) (m := mk L D' C' M R' n' s') (aboN_lt (P := P) r i w) (belN_lt (P := P) w)
  rcases (show w = 0 ∨ w = 1 ∨ w = 2 ∨ w = 3 ∨ w = 4 by omega) with rfl | rfl | rfl | rfl | rfl
  · skip
    refine go_t 0 rfl ?_
    refine go_nx rfl ?_
    refine go_t 0 rfl ?_
    refine go_f (cmd_v1 rfl rfl hG.1.k rfl) rfl (hsw) ?_
    refine go_t 0 rfl ?_
    refine go_ret rfl ?_
    exact ⟨by rw [hswl]; rfl, F', f, D', C', R', n', s', rfl, h2, by omega, by omega⟩
  · skip
    refine go_t 0 rfl ?_
    refine go_nx rfl ?_
    refine go_t 0 rfl ?_
    refine go_nx rfl ?_
    refine go_t 0 rfl ?_
    refine go_f (cmd_v1 rfl rfl hG.1.k rfl) rfl (hsw) ?_
    refine go_t 0 rfl ?_
    refine go_nx rfl ?_
    refine go_t 0 rfl ?_
    refine go_gI rfl hG.1.k hG.1.m rfl ?_
    rw [q5]
    refine go_t 0 rfl ?_
    dsimp only
    refine go_nx rfl ?_
    rw [show (nI 1) - (nI 1) / 2 * 2 = 1 from by decide]
    refine go_t 0 rfl ?_
    refine go_nx rfl ?_
    refine go_t 0 rfl ?_
    refine go_f rfl rfl ((by rw [es, shl_n hp, hswl]; exact hcom)) ?_
    refine go_chk rfl hgne ?_
    refine go_ret rfl ?_
    exact ⟨by rw [hswl, pow_1, ← pow_div (aboN_lt (P := P) r i 1) g1 g2, abo_lo (by decide)], F', f, D', C', R', n', s', rfl, h2, by omega, by omega⟩
  · skip
    refine go_t 0 rfl ?_
    refine go_nx rfl ?_
    refine go_t 0 rfl ?_
    refine go_nx rfl ?_
    refine go_t 0 rfl ?_
    refine go_f (cmd_v1 rfl rfl hG.1.k rfl) rfl (hsw) ?_
    refine go_t 0 rfl ?_
    refine go_nx rfl ?_
    refine go_t 0 rfl ?_
    refine go_gI rfl hG.1.k hG.1.m rfl ?_
    rw [q5]
    refine go_t 0 rfl ?_
    dsimp only
    refine go_nx rfl ?_
    rw [show (nI 2) - (nI 2) / 2 * 2 = 0 from by decide]
    refine go_t 0 rfl ?_
    refine go_nx rfl ?_
    refine go_t 0 rfl ?_
    refine go_f rfl rfl ((by rw [es, shl_n hp, hswl]; exact hcom)) ?_
    refine go_chk rfl hgne ?_
    refine go_ret rfl ?_
    exact ⟨by rw [es, shl_n hp, pow_2, ← pow_div (belN_lt (P := P) 2) g1 g2, bel_lo (by decide)], F', f, D', C', R', n', s', rfl, h2, by omega, by omega⟩
  · skip
    refine go_t 0 rfl ?_
    refine go_nx rfl ?_
    refine go_t 0 rfl ?_
    refine go_nx rfl ?_
    refine go_t 0 rfl ?_
    refine go_f (cmd_v1 rfl rfl hG.1.k rfl) rfl (htu) ?_
    refine go_t 0 rfl ?_
    refine go_nx rfl ?_
    refine go_t 0 rfl ?_
    refine go_gI rfl hG.1.k hG.1.m rfl ?_
    rw [q5]
    refine go_f rfl rfl (t57 hp) ?_
    refine go_t 0 rfl ?_
    refine go_nx rfl ?_
    rw [show (nI 3) - (nI 3) / 2 * 2 = 1 from by decide]
    refine go_t 0 rfl ?_
    refine go_nx rfl ?_
    refine go_t 0 rfl ?_
    refine go_f rfl rfl (hcom) ?_
    refine go_chk rfl hgne ?_
    refine go_ret rfl ?_
    exact ⟨by rw [pow_3, ← pow_div (aboN_lt (P := P) r i 3) g1 g2, abo_hi (by decide)], F', f, D', C', R', n', s', rfl, h2, by omega, by omega⟩
  · skip
    refine go_t 0 rfl ?_
    refine go_nx rfl ?_
    refine go_t 0 rfl ?_
    refine go_nx rfl ?_
    refine go_t 0 rfl ?_
    refine go_f (cmd_v1 rfl rfl hG.1.k rfl) rfl (htu) ?_
    refine go_t 0 rfl ?_
    refine go_nx rfl ?_
    refine go_t 0 rfl ?_
    refine go_gI rfl hG.1.k hG.1.m rfl ?_
    rw [q5]
    refine go_f rfl rfl (t57 hp) ?_
    refine go_t 0 rfl ?_
    refine go_nx rfl ?_
    rw [show (nI 4) - (nI 4) / 2 * 2 = 0 from by decide]
    refine go_t 0 rfl ?_
    refine go_nx rfl ?_
    refine go_t 0 rfl ?_
    refine go_f rfl rfl (hcom) ?_
    refine go_chk rfl hgne ?_
    refine go_ret rfl ?_
    exact ⟨by rw [pow_4, ← pow_div (belN_lt (P := P) 4) g1 g2, bel_hi (by decide)], F', f, D', C', R', n', s', rfl, h2, by omega, by omega⟩
theorem mo12 (hV : VP P) (a b c : Int32) : MoOK P P 138 [.int a, .int b, .int c] (.long (wPower P a b c)) := by
  intro L D C M R n s hP
  have hN := hV.1.2.1
  have hX := iN_lt hN
  have hX' : inN P (P 305 8) (P 305 9) (mN P) < 1024 := hX
  have hp := pop_le (iN P)
  have e1 : wr M 305 0 0 305 1 = P 305 1 := pr_rd (a := 305) (k := 1) ((pr_wr rfl).trans hP) rfl
  refine ev_in rfl ?_
  refine go_t 0 rfl ?_
  refine go_pM rfl rfl rfl rfl ?_
  refine go_t 0 rfl ?_
  refine go_f rfl rfl (t104 _) ?_
  refine go_br rfl (fun h10 => ?_) (fun h10 => ?_)
  · skip
    replace h10 := bI_0.mp h10
    refine go_t 0 rfl ?_
    refine go_ret rfl ?_
    exact ⟨by rw [wPower, if_neg (fun q => h10 q.1)]; rfl, _, rfl, (pr_wr rfl).trans hP⟩
  replace h10 := bI_n0.mp h10
  refine go_t 0 rfl ?_
  refine go_f rfl rfl (t90' _) ?_
  refine go_br rfl (fun h18 => ?_) (fun h18 => ?_)
  · skip
    replace h18 := bI_0.mp h18
    refine go_t 0 rfl ?_
    refine go_ret rfl ?_
    exact ⟨by rw [wPower, if_neg (fun q => h18 (by rw [e1]; exact ((mem_here hV).mp q.2.1).1))]; rfl, _, rfl, (pr_wr rfl).trans hP⟩
  replace h18 := bI_n0.mp h18
  refine go_t 0 rfl ?_
  refine go_f rfl rfl (t92 _ _ _ _) ?_
  refine go_br rfl (fun h28 => ?_) (fun h28 => ?_)
  rotate_left
  · skip
    replace h28 := bI_0.mp (Decidable.not_not.mp h28)
    refine go_t 0 rfl ?_
    refine go_ret rfl ?_
    exact ⟨by rw [wPower, if_neg (fun q => h28 q.2.2)]; rfl, _, rfl, (pr_wr rfl).trans hP⟩
  replace h28 := bI_n0.mp h28
  rw [e1] at h18
  obtain ⟨r, hr, rfl⟩ := ru_of h10
  obtain ⟨i, hi, rfl⟩ := nI_of' h18.1
  have hi10 : i < 10 := by
    have := h18.2
    rw [hV.1.1, nI_ltI hi (by omega)] at this
    omega
  have hbi : (iN P).testBit i = true ↔ hereP P (nI i) := by
    rw [mem_here hV, nI_clamp hi]
    exact ⟨fun q => ⟨h18, q⟩, fun q => q.2⟩
  obtain ⟨w, hw, rfl⟩ := in_n 4 (N := 4) rfl h28
  have e0 : hereP P (nI i) → wPower P (nI r) (nI i) (nI w) = lN (powN P r i w) := fun y1 => by
    rw [wPower, if_pos ⟨h10, y1, h28⟩, nI_clamp (by omega), nI_clamp hi, nI_clamp (by omega)]
  refine go_t 0 rfl ?_
  refine go_c (d := 1498) rfl rfl (t134 (d := 1493) ((pr_wr rfl).trans hP) hV.1 hV.2.1 hr) (fun v1 m1 hq1 => ?_)
  obtain ⟨rfl, M1, rfl, hF, hH, hc⟩ := hq1
  have hP1 : pr M1 = P := (hF.pr fun _ _ => wC_per).trans ((pr_wr rfl).trans hP)
  have k2 : M1 305 13 = nI (popS (iN P)) := by rw [hH.2.1, myN_pop hN]
  refine go_t 0 rfl ?_
  refine go_gM rfl rfl rfl rfl ?_
  rw [hH.1]
  refine go_t 0 rfl ?_
  refine go_f rfl rfl (t97 _ _ _) ?_
  refine go_br rfl (fun h49 => ?_) (fun h49 => ?_)
  rotate_left
  · skip
    replace h49 := bI_0.mp (Decidable.not_not.mp h49)
    refine go_t 0 rfl ?_
    refine go_ret rfl ?_
    refine ⟨?_, M1, rfl, hP1⟩
    rw [wPower, if_neg (fun q => h49 ((bitI_1 (by omega) (by omega)).mpr (hbi.mpr q.2.1)))]
    rfl
  replace h49 := bI_n0.mp h49
  refine go_t 65 rfl ?_
  have hb := (bitI_1 (by omega) (by omega)).mp h49
  rw [e0 (hbi.mp hb)]
  refine go_for 1024 (fun k Lc m => Lc = [some (.ref 305), some (.int (nI r)), some (.int (nI i)), some (.int (nI w)), some (.long (lN (swN P r i k))), none, some (.long (lN (tuN P r i k))), none, some (.int (nI k)), none, none, none] ∧ m = mk L D C M1 R n s) ⟨rfl, rfl⟩ ?_ ?_
  · rintro k _ _ hk ⟨rfl, rfl⟩ kk
    have fin : ∀ x y, x = swN P r i (k + 1) → y = tuN P r i (k + 1) → Go 1499 138 158 [some (.ref 305), some (.int (nI r)), some (.int (nI i)), some (.int (nI w)), some (.long (lN x)), none, some (.long (lN y)), none, some (.int (nI k)), none, none, none] [] (mk L D C M1 R n s) _ := fun x y h1 h2 => by
      subst h1 h2
      refine go_t 65 rfl (kk _ _ ⟨?_, rfl⟩)
      rw [← nI_1]
    have hor : k ||| 2 ^ i < 1024 := or_1024 hk (pow_1024 hi10)
    have no : ¬ swP P r i k → swN P r i k = swN P r i (k + 1) ∧ tuN P r i k = tuN P r i (k + 1) := fun q => ⟨by rw [swN, if_neg q], by rw [tuN, if_neg q]⟩
    have hp1 := pop_le k
    refine go_t 0 rfl ?_
    refine go_bf rfl (by exact (nI_ge hk (by decide))) ?_
    refine go_t 0 rfl ?_
    refine go_f rfl rfl (t126n hH.1 hk) ?_
    refine go_br rfl (fun h79 => ?_) (fun h79 => ?_)
    · skip
      replace h79 := bI_0.mp h79
      exact (fun z => fin _ _ (no z).1 (no z).2) (fun q => h79 q.1)
    replace h79 := bI_n0.mp h79
    refine go_t 0 rfl ?_
    refine go_f rfl rfl (t97 _ _ _) ?_
    refine go_br rfl (fun h89 => ?_) (fun h89 => ?_)
    · skip
      replace h89 := bI_n0.mp h89
      exact (fun z => fin _ _ (no z).1 (no z).2) (fun q => by have := (bitI_1 (S := k) (k := i) (by omega) (by omega)).mp h89; rw [q.2.1] at this; cases this)
    replace h89 := bI_0.mp (Decidable.not_not.mp h89)
    refine go_t 0 rfl ?_
    refine go_gR rfl rfl rfl rfl ?_
    refine go_t 0 rfl ?_
    refine go_aldM (k := k) rfl rfl rfl rfl rfl (by omega) (by decide) ?_
    rw [hc k hk]
    refine go_br rfl (fun h99 => ?_) (fun h99 => ?_)
    · skip
      exact (fun z => fin _ _ (no z).1 (no z).2) (fun q => q.2.2.1 (bI_n0.mp h99))
    replace h99 := Decidable.not_not.mp h99
    refine go_t 0 rfl ?_
    refine go_gR rfl rfl rfl rfl ?_
    refine go_t 0 rfl ?_
    dsimp only
    refine go_aldM (k := k ||| 2 ^ i) rfl rfl rfl rfl (nI_with hi10) (by omega) (by decide) ?_
    rw [hc _ hor]
    refine go_br rfl (fun h113 => ?_) (fun h113 => ?_)
    rotate_left
    · skip
      replace h113 := Decidable.not_not.mp h113
      refine go_t 158 rfl ?_
      exact (fun z => fin _ _ (no z).1 (no z).2) (fun q => bI_0.mp h113 q.2.2.2)
    have hkb : k.testBit i = false := Bool.eq_false_iff.mpr fun q => h89 ((bitI_1 (by omega) (by omega)).mpr q)
    have hsw : swP P r i k := ⟨h79, hkb, bI_0.mp h99, bI_n0.mp h113⟩
    have hps : popS k + 1 ≤ popS (iN P) := pop_sub h79 hkb hb hi10
    have esub : nI (popS (iN P)) - nI (popS k) - 1 = nI (popS (iN P) - 1 - popS k) := by
      have e1 : nI (popS (iN P)) - nI (popS k) = nI (popS (iN P) - popS k) := pk_sub (by omega)
      have e2 : nI (popS (iN P) - popS k) - nI 1 = nI (popS (iN P) - popS k - 1) := pk_sub (by omega)
      show nI (popS (iN P)) - nI (popS k) - nI 1 = _
      rw [e1, e2]
      congr 1
      omega
    refine go_t 0 rfl ?_
    dsimp only
    refine go_f rfl rfl (t139 hk) ?_
    refine go_f rfl rfl (t140 hp1) ?_
    refine go_t 0 rfl ?_
    refine go_gM rfl rfl rfl rfl ?_
    rw [k2]
    refine go_t 0 rfl ?_
    refine go_f rfl rfl (t139 hk) ?_
    refine go_t 0 rfl ?_
    dsimp only
    refine go_f rfl rfl ((by rw [esub]; exact t140 (by omega))) ?_
    refine go_t 158 rfl ?_
    dsimp only
    rw [lN_mul, lN_add, show lN (swN P r i k) + lcst 1 = lN (swN P r i k + 1) from lN_1 _]
    exact fin _ _ (by rw [swN, if_pos hsw]) (by rw [tuN, if_pos hsw])
  · rintro _ _ ⟨rfl, rfl⟩
    have hpos : 1 ≤ popS (iN P) := by
      have := pop_sub (S := 0) (X := iN P) (m := i) (nsub_0.mpr fun j hj => by rw [Nat.zero_testBit] at hj; cases hj) (Nat.zero_testBit _) hb hi10
      omega
    have es : nI (popS (iN P)) - 1 = nI (popS (iN P) - 1) := by
      have : nI (popS (iN P)) - nI 1 = nI (popS (iN P) - 1) := pk_sub (by omega)
      exact this
    obtain ⟨g1, g2⟩ := gcd_ok (P := P) r i w
    have hgne : ¬ lN (Nat.gcd (belN P w) (aboN P r i w)) = 0 := fun q => by
      have := (pk_lEQ (b := 0) g2 (by decide)).mp q
      omega
    have hcom := t141 (d := 1498) (m := mk L D C M1 R n s) (aboN_lt (P := P) r i w) (belN_lt (P := P) w)
    refine go_t 0 rfl ?_
    refine go_nx rfl ?_
    rcases (show w = 0 ∨ w = 1 ∨ w = 2 ∨ w = 3 ∨ w = 4 by omega) with rfl | rfl | rfl | rfl | rfl
    · skip
      refine go_t 0 rfl ?_
      refine go_nx rfl ?_
      refine go_t 0 rfl ?_
      refine go_ret rfl ?_
      exact ⟨rfl, M1, rfl, hP1⟩
    · skip
      refine go_t 0 rfl ?_
      refine go_nx rfl ?_
      refine go_t 0 rfl ?_
      refine go_nx rfl ?_
      refine go_t 0 rfl ?_
      refine go_nx rfl ?_
      refine go_t 0 rfl ?_
      refine go_gM rfl rfl rfl rfl ?_
      rw [k2]
      refine go_t 0 rfl ?_
      dsimp only
      refine go_nx rfl ?_
      rw [show (nI 1) - (nI 1) / 2 * 2 = 1 from by decide]
      refine go_t 0 rfl ?_
      refine go_nx rfl ?_
      refine go_t 0 rfl ?_
      refine go_f rfl rfl ((by rw [es, shl_n hp]; exact hcom)) ?_
      refine go_chk rfl hgne ?_
      refine go_ret rfl ?_
      exact ⟨by rw [pow_1, ← pow_div (aboN_lt (P := P) r i 1) g1 g2, abo_lo (by decide)], M1, rfl, hP1⟩
    · skip
      refine go_t 0 rfl ?_
      refine go_nx rfl ?_
      refine go_t 0 rfl ?_
      refine go_nx rfl ?_
      refine go_t 0 rfl ?_
      refine go_nx rfl ?_
      refine go_t 0 rfl ?_
      refine go_gM rfl rfl rfl rfl ?_
      rw [k2]
      refine go_t 0 rfl ?_
      dsimp only
      refine go_nx rfl ?_
      rw [show (nI 2) - (nI 2) / 2 * 2 = 0 from by decide]
      refine go_t 0 rfl ?_
      refine go_nx rfl ?_
      refine go_t 0 rfl ?_
      refine go_f rfl rfl ((by rw [es, shl_n hp]; exact hcom)) ?_
      refine go_chk rfl hgne ?_
      refine go_ret rfl ?_
      exact ⟨by rw [es, shl_n hp, pow_2, ← pow_div (belN_lt (P := P) 2) g1 g2, bel_lo (by decide)], M1, rfl, hP1⟩
    · skip
      refine go_t 0 rfl ?_
      refine go_nx rfl ?_
      refine go_t 0 rfl ?_
      refine go_nx rfl ?_
      refine go_t 0 rfl ?_
      refine go_nx rfl ?_
      refine go_t 0 rfl ?_
      refine go_gM rfl rfl rfl rfl ?_
      rw [k2]
      refine go_f rfl rfl (t140 hp) ?_
      refine go_t 0 rfl ?_
      refine go_nx rfl ?_
      rw [show (nI 3) - (nI 3) / 2 * 2 = 1 from by decide]
      refine go_t 0 rfl ?_
      refine go_nx rfl ?_
      refine go_t 0 rfl ?_
      refine go_f rfl rfl (hcom) ?_
      refine go_chk rfl hgne ?_
      refine go_ret rfl ?_
      exact ⟨by rw [pow_3, ← pow_div (aboN_lt (P := P) r i 3) g1 g2, abo_hi (by decide)], M1, rfl, hP1⟩
    · skip
      refine go_t 0 rfl ?_
      refine go_nx rfl ?_
      refine go_t 0 rfl ?_
      refine go_nx rfl ?_
      refine go_t 0 rfl ?_
      refine go_nx rfl ?_
      refine go_t 0 rfl ?_
      refine go_gM rfl rfl rfl rfl ?_
      rw [k2]
      refine go_f rfl rfl (t140 hp) ?_
      refine go_t 0 rfl ?_
      refine go_nx rfl ?_
      rw [show (nI 4) - (nI 4) / 2 * 2 = 0 from by decide]
      refine go_t 0 rfl ?_
      refine go_nx rfl ?_
      refine go_t 0 rfl ?_
      refine go_f rfl rfl (hcom) ?_
      refine go_chk rfl hgne ?_
      refine go_ret rfl ?_
      exact ⟨by rw [pow_4, ← pow_div (belN_lt (P := P) 4) g1 g2, bel_hi (by decide)], M1, rfl, hP1⟩
end O3
