/-! OPERATION: support; who supports what -/
set_option maxRecDepth 100000
section O4
variable {d L n s : Nat} {D : Nat → Nat × Nat} {C M P : Nat → Nat → Int32} {R : Nat → Nat → Option Nat} {m : Mem} {xs : Nat → Int32} {F : Nat → Prop} {f : Nat → Nat}
def rkO (P : Nat → Nat → Int32) (m x : Nat) : Option Nat := fst (fun k => decide (P 311 (6 * m + k) = nI x)) 6
def rk (P : Nat → Nat → Int32) (m x : Nat) : Nat := (rkO P m x).getD 0
theorem rk_ok (hV : VPw P) {m x : Nat} (hm : m < 10) (h1 : P 312 m = 1) (hx : x < 6) : rk P m x < 6 ∧ P 311 (6 * m + rk P m x) = nI x ∧ ∀ j, j < rk P m x → ¬ P 311 (6 * m + j) = nI x := by
  obtain ⟨w, hw1, hw2⟩ := ((hV m hm).resolve_left (fun q => by rw [h1] at q; cases q)).2
  obtain ⟨k, hk, hwk⟩ := hw2 x hx
  cases ho : rkO P m x with
  | none =>
    have := fst_none ho k hk
    rw [decide_eq_false_iff_not] at this
    exact absurd (by rw [(hw1 k hk).2, hwk]) this
  | some k0 =>
    obtain ⟨a1, a2, a3⟩ := fst_some ho
    have e : rk P m x = k0 := by rw [rk, ho]; rfl
    rw [e]
    refine ⟨a1, of_decide_eq_true a2, fun j hj => ?_⟩
    have := fst_none a3 j hj
    rwa [decide_eq_false_iff_not] at this
/-- the supporters, of the first k members -/
def supN (P : Nat → Nat → Int32) (a b : Nat) : Nat → Nat
  | 0 => 0
  | k + 1 => if (iN P).testBit k = true ∧ P 312 k = 1 ∧ rk P k a < rk P k b then supN P a b k ||| 2 ^ k else supN P a b k
theorem supN_tb {a b : Nat} : ∀ {k j : Nat}, (supN P a b k).testBit j = true → j < k ∧ (iN P).testBit j = true := by
  intro k
  induction k with
  | zero => intro j h; rw [supN, Nat.zero_testBit] at h; cases h
  | succ k ih =>
    intro j h
    rw [supN] at h
    split at h
    · rename_i hc
      rw [Nat.testBit_or, Bool.or_eq_true, Nat.testBit_two_pow, decide_eq_true_iff] at h
      rcases h with h | h
      · exact ⟨Nat.lt_succ_of_lt (ih h).1, (ih h).2⟩
      · subst h; exact ⟨Nat.lt_succ_self _, hc.1⟩
    · exact ⟨Nat.lt_succ_of_lt (ih h).1, (ih h).2⟩
theorem supN_sub {a b k : Nat} : nsub (supN P a b k) (iN P) = 0 := nsub_0.mpr fun _ h => (supN_tb h).2
theorem supN_up {a b : Nat} (hN : mN P ≤ 10) : ∀ k, mN P ≤ k → supN P a b k = supN P a b (mN P) := by
  intro k hk
  induction hk with
  | refl => rfl
  | step hk ih =>
    rw [supN, if_neg (fun q => absurd (iN_mN hN q.1) (Nat.not_lt_of_le hk))]
    exact ih
abbrev supS (P : Nat → Nat → Int32) (a b : Nat) : Nat := supN P a b (mN P)
theorem t153 (hP : pr M = P) (hV : VPw P) {k x : Nat} (hk : k < 10) (h1 : P 312 k = 1) (hx : x < 6) : Ev d 153 [.ref 305, .int (nI k), .int (nI x)] (mk L D C M R n s) (Rt (Is (some (.int (nI (rk P k x)))) (mk L D C M R n s))) := by
  obtain ⟨a1, a2, a3⟩ := rk_ok hV hk h1 hx
  have e : ∀ j, M 311 (6 * k + j) = P 311 (6 * k + j) := fun j => pr_rd hP rfl
  have ej : ∀ j, (6 : Int32) * nI k + nI j = nI (6 * k + j) := fun j => by rw [show (6 : Int32) * nI k = nI (6 * k) from pk_mul 6 k, nI_add]
  refine ev_in rfl ?_
  refine go_t 2 rfl ?_
  refine go_for (rk P k x) (fun j Lc m => Lc = [some (.ref 305), some (.int (nI k)), some (.int (nI x)), some (.int (nI j))] ∧ m = mk L D C M R n s) ⟨rfl, rfl⟩ ?_ ?_
  · rintro j _ _ hj ⟨rfl, rfl⟩ kk
    refine go_t 0 rfl ?_
    refine go_gR rfl rfl rfl rfl ?_
    refine go_t 0 rfl ?_
    dsimp only
    refine go_aldM (k := 6 * k + j) rfl rfl rfl rfl (ej j) (by omega) (by decide) ?_
    rw [e]
    refine go_t 0 rfl ?_
    refine go_bf rfl (by exact (a3 j hj)) ?_
    refine go_t 2 rfl ?_
    dsimp only
    rw [nI_1]
    exact kk _ _ ⟨rfl, rfl⟩
  · rintro _ _ ⟨rfl, rfl⟩
    refine go_t 0 rfl ?_
    refine go_gR rfl rfl rfl rfl ?_
    refine go_t 0 rfl ?_
    dsimp only
    refine go_aldM (k := 6 * k + rk P k x) rfl rfl rfl rfl (ej _) (by omega) (by decide) ?_
    rw [e]
    refine go_t 0 rfl ?_
    refine go_bt rfl (by exact a2) ?_
    refine go_t 0 rfl ?_
    refine go_ret rfl ?_
    exact ⟨rfl, rfl⟩
theorem t152 (hP : pr M = P) (hV : VP P) (hH : HsV P M) {a b : Nat} (ha : a < 6) (hb : b < 6) : Ev (d + 1) 152 [.ref 305, .int (nI a), .int (nI b)] (mk L D C M R n s) (Rt (Is (some (.int (nI (supS P a b)))) (mk L D C M R n s))) := by
  have hN := hV.1.2.1
  have hX := iN_lt hN
  have hX' : inN P (P 305 8) (P 305 9) (mN P) < 1024 := hX
  have e1 : M 305 1 = nI (mN P) := (pr_rd hP rfl).trans hV.1.1
  refine ev_in rfl ?_
  refine go_t 5 rfl ?_
  refine go_for (mN P) (fun k Lc m => Lc = [some (.ref 305), some (.int (nI a)), some (.int (nI b)), some (.int (nI (supN P a b k))), some (.int (nI k))] ∧ m = mk L D C M R n s) ⟨rfl, rfl⟩ ?_ ?_
  · rintro k _ _ hk ⟨rfl, rfl⟩ kk
    have fin : ∀ v, v = supN P a b (k + 1) → Go (d + 1) 152 61 [some (.ref 305), some (.int (nI a)), some (.int (nI b)), some (.int (nI v)), some (.int (nI k))] [] (mk L D C M R n s) _ := fun v h => by
      subst h
      refine go_t 5 rfl (kk _ _ ⟨?_, rfl⟩)
      rw [← nI_1]
    have eh : M 312 k = P 312 k := pr_rd hP rfl
    have h01 : P 312 k = 0 ∨ P 312 k = 1 := (hV.2.2.2.1 k (by omega)).elim Or.inl (fun q => Or.inr q.1)
    refine go_t 0 rfl ?_
    refine go_gM rfl rfl rfl rfl ?_
    rw [e1]
    refine go_bf rfl (by exact (nI_ge hk (by omega))) ?_
    refine go_t 0 rfl ?_
    refine go_gM rfl rfl rfl rfl ?_
    rw [hH.1]
    refine go_t 0 rfl ?_
    refine go_f rfl rfl (t97 _ _ _) ?_
    refine go_br rfl (fun h24 => ?_) (fun h24 => ?_)
    · skip
      replace h24 := bI_0.mp h24
      exact fin _ (by rw [supN, if_neg (fun q => h24 ((bitI_1 (by omega) (by omega)).mpr q.1))])
    replace h24 := bI_n0.mp h24
    refine go_t 0 rfl ?_
    refine go_gR rfl rfl rfl rfl ?_
    refine go_t 0 rfl ?_
    refine go_aldM (k := k) rfl rfl rfl rfl rfl (by omega) (by decide) ?_
    rw [eh]
    refine go_br rfl (fun h34 => ?_) (fun h34 => ?_)
    · skip
      exact fin _ (by rw [supN, if_neg (fun q => by rw [q.2.1] at h34; cases h34)])
    have h1 := h01.resolve_left h34
    have r1 := rk_ok hV.2.2.2.1 (show k < 10 by omega) h1 ha
    have r2 := rk_ok hV.2.2.2.1 (show k < 10 by omega) h1 hb
    refine go_t 0 rfl ?_
    refine go_f rfl rfl (t153 hP hV.2.2.2.1 (by omega) h1 ha) ?_
    refine go_t 0 rfl ?_
    refine go_f rfl rfl (t153 hP hV.2.2.2.1 (by omega) h1 hb) ?_
    refine go_br rfl (fun h51 => ?_) (fun h51 => ?_)
    · skip
      exact fin _ (by rw [supN, if_neg (fun q => absurd ((nI_leI (by omega) (by omega)).mp h51) (by omega))])
    · skip
      refine go_t 61 rfl ?_
      dsimp only
      rw [nI_with (by omega)]
      exact fin _ (by rw [supN, if_pos ⟨(bitI_1 (by omega) (by omega)).mp h24, h1, by rw [Int32.not_le, nI_ltI (by omega) (by omega)] at h51; exact h51⟩])
  · rintro _ _ ⟨rfl, rfl⟩
    refine go_t 0 rfl ?_
    refine go_gM rfl rfl rfl rfl ?_
    rw [e1]
    refine go_bt rfl (by exact (Int32.le_refl _)) ?_
    refine go_t 0 rfl ?_
    refine go_ret rfl ?_
    exact ⟨rfl, rfl⟩
/-- isHere of a small number: laid behind it -/
theorem t41d (h : CI trT xs P F f L D C R n) (v : Int32) (h0 : 0 ≤ v) (h9 : v ≤ 9) : Ev (d + 5) 41 [.ref 281, .int v] (mk L D C M R n s) (Rt (fun w m' => w = some (.int (bI (hereP P v))) ∧ ∃ C', m' = mk L D C' M R n s ∧ CI trT xs P F f L D C' R n ∧ Laid P C')) := by
  have hX := iN_lt h.1.1.2.1
  refine ev_in rfl ?_
  refine go_t 0 rfl ?_
  refine go_f rfl rfl (t37 _ _ _) ?_
  refine go_br rfl (fun h7 => ?_) (fun h7 => ?_)
  · skip
    replace h7 := bI_0.mp h7
    exact absurd ⟨h0, h9⟩ h7
  · skip
    replace h7 := bI_n0.mp h7
    refine go_t 0 rfl ?_
    refine go_c rfl rfl (t42c h) (fun v11 m11 hq11 => ?_)
    obtain ⟨rfl, C1, rfl, h', hL⟩ := hq11
    refine go_gI rfl rfl rfl rfl ?_
    rw [hL.2.1]
    refine go_t 0 rfl ?_
    dsimp only
    refine go_br rfl (fun h22 => ?_) (fun h22 => ?_)
    · skip
      refine go_t 0 rfl (go_ret rfl ?_)
      refine ⟨?_, C1, rfl, h', hL⟩
      rw [bI_f (fun q => ?_)]
      obtain ⟨j, hj, rfl, hb⟩ := here_n q
      exact h22 ((bit_n hX (by omega)).mpr hb)
    · skip
      replace h22 := Decidable.not_not.mp h22
      refine go_t 0 rfl ?_
      refine go_ret rfl ?_
      refine ⟨?_, C1, rfl, h', hL⟩
      obtain ⟨j, hj, rfl⟩ := in_n 9 (N := 9) rfl h7
      rw [bI_t ⟨h7.1, h7.2, by rw [nI_clamp (by omega)]; exact (bit_n hX (by omega)).mp h22⟩]
/-- DivisionHall's supporters, as the division is laid: a member's turn, behind isHere -/
theorem t66B {Q : Res → Prop} (h : CI trT xs P F f L D C R n) {a b k : Nat} (ha : a < 6) (hb : b < 6) (hk : k < 10)
    (kk : Go (d + 2) 66 5 [some (.ref 281), some (.int (nI a)), some (.int (nI b)), some (.int (nI (supN P a b (k + 1)))), some (.int (nI (k + 1)))] [] (mk L D C M R n s) Q) :
    Go (d + 2) 66 19 [some (.ref 281), some (.int (nI a)), some (.int (nI b)), some (.int (nI (supN P a b k))), some (.int (nI k))] [.int (bI (hereP P (nI k))), .int (nI (supN P a b k))] (mk L D C M R n s) Q := by
  have hV := h.1
  have hw := h.2.2.1.2.2.2.2.2.2.1
  have fin : ∀ v, v = supN P a b (k + 1) → Go (d + 2) 66 69 [some (.ref 281), some (.int (nI a)), some (.int (nI b)), some (.int (nI v)), some (.int (nI k))] [] (mk L D C M R n s) Q := fun v h => by
    subst h
    refine go_t 5 rfl ?_
    rw [nI_1]
    exact kk
  have z : nI (supN P a b k) ||| 0 = nI (supN P a b k) := Int32.or_zero
  have hh : hereP P (nI k) ↔ (iN P).testBit k = true := by
    unfold hereP
    rw [nI_clamp (by omega)]
    exact ⟨fun q => q.2.2, fun q => ⟨nI_pos' (by omega), nI_le (a := k) (b := 9) (by omega) (by decide), q⟩⟩
  have e293 : rf R 293 k = R 293 k := by rw [rf_op rfl]
  rcases hw k hk with ⟨w1, w2⟩ | ⟨w, ar, w1, w2, w3, w4, w5, w6, w7, w8⟩
  · rw [w1] at e293
    refine go_br rfl (fun h19 => ?_) (fun h19 => ?_)
    · skip
      replace h19 := bI_0.mp h19
      refine go_t 69 rfl ?_
      dsimp only
      rw [z]
      exact fin _ (by rw [supN, if_neg (fun q => h19 (hh.mpr q.1))])
    · skip
      replace h19 := bI_n0.mp h19
      refine go_t 0 rfl ?_
      refine go_gR rfl rfl rfl rfl ?_
      refine go_t 0 rfl ?_
      refine go_aald (k := k) rfl rfl rfl rfl (by omega) (by decide) e293 ?_
      refine go_nul1 rfl ?_
      refine go_t 69 rfl ?_
      dsimp only
      rw [z]
      exact fin _ (by rw [supN, if_neg (fun q => by rw [w2] at q; exact absurd q.2.1 (by decide))])
  · rw [w1] at e293
    have hrw : rf R w 0 = some ar := by rw [w5.R]; exact w7
    have r1 := rk_ok hV.2.2.2.1 hk w2 ha
    have r2 := rk_ok hV.2.2.2.1 hk w2 hb
    have c1 := w8 _ a r1.1 ha r1.2.1
    have c2 := w8 _ b r2.1 hb r2.2.1
    refine go_br rfl (fun h19 => ?_) (fun h19 => ?_)
    · skip
      replace h19 := bI_0.mp h19
      refine go_t 69 rfl ?_
      dsimp only
      rw [z]
      exact fin _ (by rw [supN, if_neg (fun q => h19 (hh.mpr q.1))])
    · skip
      replace h19 := bI_n0.mp h19
      refine go_t 0 rfl ?_
      refine go_gR rfl rfl rfl rfl ?_
      refine go_t 0 rfl ?_
      refine go_aald (k := k) rfl rfl rfl rfl (by omega) (by decide) e293 ?_
      refine go_ifnul rfl w5.k rfl ?_
      refine go_t 0 rfl ?_
      refine go_gR rfl rfl rfl rfl ?_
      refine go_t 0 rfl ?_
      refine go_aald (k := k) rfl rfl rfl rfl (by omega) (by decide) e293 ?_
      refine go_gR rfl w5.k rfl hrw ?_
      refine go_t 0 rfl ?_
      refine go_aldC (k := a) rfl w6.k w6.m rfl rfl (by omega) (by decide) ?_
      rw [c1]
      refine go_t 0 rfl ?_
      refine go_gR rfl rfl rfl rfl ?_
      refine go_t 0 rfl ?_
      refine go_aald (k := k) rfl rfl rfl rfl (by omega) (by decide) e293 ?_
      refine go_gR rfl w5.k rfl hrw ?_
      refine go_t 0 rfl ?_
      refine go_aldC (k := b) rfl w6.k w6.m rfl rfl (by omega) (by decide) ?_
      rw [c2]
      refine go_br rfl (fun h56 => ?_) (fun h56 => ?_)
      · skip
        refine go_t 69 rfl ?_
        dsimp only
        rw [z]
        exact fin _ (by rw [supN, if_neg (fun q => absurd ((nI_leI (by omega) (by omega)).mp h56) (by omega))])
      · skip
        refine go_t 69 rfl ?_
        dsimp only
        rw [nI_with hk]
        exact fin _ (by rw [supN, if_pos ⟨hh.mp h19, w2, by rw [Int32.not_le, nI_ltI (by omega) (by omega)] at h56; exact h56⟩])
theorem t66L (h : CI trT xs P F f L D C R n) (hl : Laid P C) {a b : Nat} (ha : a < 6) (hb : b < 6) : ∀ j k, k + j = 10 → Go (d + 2) 66 5 [some (.ref 281), some (.int (nI a)), some (.int (nI b)), some (.int (nI (supN P a b k))), some (.int (nI k))] [] (mk L D C M R n s) (Rt (Is (some (.int (nI (supS P a b)))) (mk L D C M R n s))) := by
  have hV := h.1
  have hN := hV.1.2.1
  intro j
  induction j with
  | zero =>
    intro k hk
    rw [Nat.add_zero] at hk
    subst hk
    refine go_t 0 rfl ?_
    refine go_nx rfl ?_
    refine go_t 0 rfl ?_
    refine go_ret rfl ?_
    exact ⟨by rw [supN_up hN 10 hN], rfl⟩
  | succ j ih =>
    intro k hk
    refine go_t 0 rfl ?_
    refine go_bf rfl (by exact (nI_ge (show k < 10 by omega) (by decide))) ?_
    refine go_t 0 rfl ?_
    refine go_f rfl rfl (t41' hV.1 hl (nI k)) ?_
    exact t66B h ha hb (by omega) (ih (k + 1) (by omega))
theorem t66 (h : CI trT xs P F f L D C R n) (hl : Laid P C) {a b : Nat} (ha : a < 6) (hb : b < 6) : Ev (d + 2) 66 [.ref 281, .int (nI a), .int (nI b)] (mk L D C M R n s) (Rt (Is (some (.int (nI (supS P a b)))) (mk L D C M R n s))) :=
  ev_in rfl (go_t 5 rfl (t66L h hl ha hb 10 0 rfl))
/-- supporters: laid or not -/
theorem t66c (h : CI trT xs P F f L D C R n) {a b : Nat} (ha : a < 6) (hb : b < 6) : Ev (d + 6) 66 [.ref 281, .int (nI a), .int (nI b)] (mk L D C M R n s) (Rt (fun v m' => v = some (.int (nI (supS P a b))) ∧ ∃ C', m' = mk L D C' M R n s ∧ CI trT xs P F f L D C' R n ∧ Laid P C')) := by
  have hV := h.1
  refine ev_in rfl ?_
  refine go_t 5 rfl ?_
  refine go_t 0 rfl (go_nx rfl ?_)
  refine go_t 0 rfl ?_
  refine go_c (d := d + 5) rfl rfl (t41d (d := d) h (nI 0) (by decide) (by decide)) (fun v1 m1 hq1 => ?_)
  obtain ⟨rfl, C1, rfl, h1, hL⟩ := hq1
  refine t66B (d := d + 4) (k := 0) h1 ha hb (by decide) ?_
  refine go_post (t66L (d := d + 4) h1 hL ha hb 9 1 rfl) (fun q hq => ?_)
  obtain ⟨o, mm⟩ := q
  cases o with
  | inr a => exact hq.elim
  | inl v => exact ⟨hq.1, C1, hq.2, h1, hL⟩
def wSup (P : Nat → Nat → Int32) (a b : Int32) : Int32 := if (0 ≤ a ∧ a ≤ 5) ∧ (0 ≤ b ∧ b ≤ 5) ∧ ¬ a = b then nI (supS P a.toNatClampNeg b.toNatClampNeg) else -1
theorem mo18 (hV : VP P) (a b : Int32) : MoOK P P 150 [.int a, .int b] (.int (wSup P a b)) := by
  intro L D C M R n s hP
  refine ev_in rfl ?_
  refine go_t 0 rfl ?_
  refine go_pM rfl rfl rfl rfl ?_
  refine go_t 0 rfl ?_
  refine go_f rfl rfl (t151 _) ?_
  refine go_br rfl (fun h10 => ?_) (fun h10 => ?_)
  · skip
    replace h10 := bI_0.mp h10
    refine go_t 0 rfl ?_
    refine go_ret rfl ?_
    exact ⟨by rw [wSup, if_neg (fun q => h10 q.1)], _, rfl, (pr_wr rfl).trans hP⟩
  replace h10 := bI_n0.mp h10
  refine go_t 0 rfl ?_
  refine go_f rfl rfl (t151 _) ?_
  refine go_br rfl (fun h18 => ?_) (fun h18 => ?_)
  · skip
    replace h18 := bI_0.mp h18
    refine go_t 0 rfl ?_
    refine go_ret rfl ?_
    exact ⟨by rw [wSup, if_neg (fun q => h18 q.2.1)], _, rfl, (pr_wr rfl).trans hP⟩
  replace h18 := bI_n0.mp h18
  refine go_t 0 rfl ?_
  refine go_br rfl (fun h23 => ?_) (fun h23 => ?_)
  rotate_left
  · skip
    replace h23 := Decidable.not_not.mp h23
    refine go_t 0 rfl ?_
    refine go_ret rfl ?_
    exact ⟨by rw [wSup, if_neg (fun q => q.2.2 h23)], _, rfl, (pr_wr rfl).trans hP⟩
  have e0 : wSup P a b = nI (supS P a.toNatClampNeg b.toNatClampNeg) := by rw [wSup, if_pos ⟨h10, h18, h23⟩]
  obtain ⟨x, hx, rfl⟩ := in_n 5 (N := 5) rfl h10
  obtain ⟨y, hy, rfl⟩ := in_n 5 (N := 5) rfl h18
  rw [nI_clamp (by omega), nI_clamp (by omega)] at e0
  rw [e0]
  refine go_t 0 rfl ?_
  refine go_c rfl rfl (t95 (P := P) ((pr_wr rfl).trans hP) hV.1) (fun v29 m29 hq29 => ?_)
  obtain ⟨rfl, M1, rfl, hF, hH⟩ := hq29
  have hP1 : pr M1 = P := (hF.pr fun _ _ => wF_per).trans ((pr_wr rfl).trans hP)
  refine go_t 0 rfl ?_
  refine go_f rfl rfl (t152 hP1 hV hH (by omega) (by omega)) ?_
  refine go_ret rfl ?_
  exact ⟨rfl, M1, rfl, hP1⟩
theorem co18 (a b : Int32) : CoOK P P 65 [.int a, .int b] (.int (wSup P a b)) := by
  intro xs F f L D C M R n s h
  refine ev_in rfl ?_
  refine go_t 0 rfl ?_
  refine go_f rfl rfl (t64 _) ?_
  refine go_br rfl (fun h4 => ?_) (fun h4 => ?_)
  · skip
    replace h4 := bI_0.mp h4
    refine go_t 0 rfl (go_ret rfl ?_)
    exact ⟨by rw [wSup, if_neg (fun q => h4 q.1)], F, f, D, C, R, n, s, rfl, h, by omega, by omega⟩
  replace h4 := bI_n0.mp h4
  refine go_t 0 rfl ?_
  refine go_f rfl rfl (t64 _) ?_
  refine go_br rfl (fun h11 => ?_) (fun h11 => ?_)
  · skip
    replace h11 := bI_0.mp h11
    refine go_t 0 rfl (go_ret rfl ?_)
    exact ⟨by rw [wSup, if_neg (fun q => h11 q.2.1)], F, f, D, C, R, n, s, rfl, h, by omega, by omega⟩
  replace h11 := bI_n0.mp h11
  refine go_t 0 rfl ?_
  refine go_br rfl (fun h16 => ?_) (fun h16 => ?_)
  · skip
    refine go_t 0 rfl (go_ret rfl ?_)
    exact ⟨by rw [wSup, if_neg (fun q => q.2.2 h16)], F, f, D, C, R, n, s, rfl, h, by omega, by omega⟩
  have e0 : wSup P a b = nI (supS P a.toNatClampNeg b.toNatClampNeg) := by rw [wSup, if_pos ⟨h4, h11, h16⟩]
  obtain ⟨x, hx, rfl⟩ := in_n 5 (N := 5) rfl h4
  obtain ⟨y, hy, rfl⟩ := in_n 5 (N := 5) rfl h11
  rw [nI_clamp (by omega), nI_clamp (by omega)] at e0
  rw [e0]
  refine go_t 0 rfl ?_
  refine go_c rfl rfl (t66c (d := 1492) h (by omega) (by omega)) (fun v22 m22 hq22 => ?_)
  obtain ⟨rfl, C1, rfl, h1, hL⟩ := hq22
  refine go_t 0 rfl ?_
  refine go_ret rfl ?_
  exact ⟨rfl, F, f, D, C1, R, n, s, rfl, h1, by omega, by omega⟩
end O4
