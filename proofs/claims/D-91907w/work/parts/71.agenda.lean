/-! OPERATION: agenda -/
set_option maxRecDepth 100000
section OB
variable {d L n s : Nat} {D : Nat → Nat × Nat} {C M P : Nat → Nat → Int32} {R : Nat → Nat → Option Nat} {m : Mem} {xs : Nat → Int32} {F : Nat → Prop} {f : Nat → Nat}
def dg (v j : Nat) : Nat := v / 10 ^ j % 10
/-- n motions, all different, behind a nine -/
def rowOK (v n : Nat) : Prop := v / 10 ^ n = 9 ∧ 1 ≤ n ∧ n ≤ 6 ∧ (∀ j, j < n → dg v j < 6) ∧ ∀ i j, i < j → j < n → dg v i ≠ dg v j
theorem div_s (v k : Nat) : v / 10 ^ (k + 1) = v / 10 ^ k / 10 := by rw [Nat.pow_succ, Nat.div_div_eq_div_mul]
theorem div_le {v k n : Nat} (h : k ≤ n) : v / 10 ^ n ≤ v / 10 ^ k := Nat.div_le_div_left (Nat.pow_le_pow_right (by decide) h) (Nat.pow_pos (by decide))
/-- where the quotients are above 9 there is no nine yet -/
theorem row_ge {v n k : Nat} (h : rowOK v n) (hk : ∀ j, j < k → 9 < v / 10 ^ j) : k ≤ n := by
  refine Decidable.byContradiction fun q => ?_
  have := hk n (by omega)
  have := h.1
  omega
theorem row_at {v n k : Nat} (h : rowOK v n) (hk : ∀ j, j < k → 9 < v / 10 ^ j) (h9 : v / 10 ^ k ≤ 9) : n = k := by
  have h1 := row_ge h hk
  refine Decidable.byContradiction fun q => ?_
  have h2 : v / 10 ^ n ≤ v / 10 ^ (k + 1) := div_le (by omega)
  rw [div_s] at h2
  have := h.1
  omega
theorem row_un {v n m : Nat} (h : rowOK v n) (h2 : rowOK v m) : n = m := by
  rcases Nat.lt_trichotomy n m with q | q | q
  · have h3 : v / 10 ^ m ≤ v / 10 ^ (n + 1) := div_le q
    rw [div_s, h.1] at h3
    have := h2.1
    omega
  · exact q
  · have h3 : v / 10 ^ n ≤ v / 10 ^ (m + 1) := div_le q
    rw [div_s, h2.1] at h3
    have := h.1
    omega
noncomputable def rowN (v : Nat) : Option Nat := fst (fun n => @decide (rowOK v n) (Classical.propDecidable _)) 7
theorem rowN_y {v n : Nat} (h : rowOK v n) : rowN v = some n := by
  cases hr : rowN v with
  | none =>
    have := fst_none hr n (by have := h.2.2.1; omega)
    exact absurd h (@of_decide_eq_false _ (Classical.propDecidable _) this)
  | some k =>
    obtain ⟨_, h2, _⟩ := fst_some hr
    have := @of_decide_eq_true _ (Classical.propDecidable _) h2
    rw [row_un this h]
theorem rowN_n {v : Nat} (h : ∀ n, ¬ rowOK v n) : rowN v = none := by
  cases hr : rowN v with
  | none => rfl
  | some k =>
    obtain ⟨_, h2, _⟩ := fst_some hr
    exact absurd (@of_decide_eq_true _ (Classical.propDecidable _) h2) (h k)
/-- the row itself -/
def rwV (v n k : Nat) : Nat := dg v (n - 1 - k)
theorem rwV_ok {v n : Nat} (h : rowOK v n) : (∀ k, k < n → rwV v n k < 6) ∧ ∀ i j, i < n → j < n → i ≠ j → rwV v n i ≠ rwV v n j := by
  refine ⟨fun k hk => h.2.2.2.1 _ (by omega), fun i j hi hj hne => ?_⟩
  rcases Nat.lt_or_gt_of_ne hne with q | q
  · exact fun z => h.2.2.2.2 (n - 1 - j) (n - 1 - i) (by omega) (by omega) z.symm
  · exact h.2.2.2.2 (n - 1 - i) (n - 1 - j) (by omega) (by omega)
noncomputable def agV (P : Nat → Nat → Int32) (r v : Nat) (sg : Nat) : Option Nat → Int32
  | none => -1
  | some n => nI (comS (btB P r) (rwV v n) sg (n - 1) 1 (rwV v n 0))
noncomputable def wAgenda (P : Nat → Nat → Int32) (a b c : Int32) : Int32 := if (0 ≤ a ∧ a ≤ 3) ∧ 0 ≤ b then agV P a.toNatClampNeg b.toNatClampNeg c.toNatClampNeg (rowN b.toNatClampNeg) else -1
theorem nI_div10 {v : Nat} (h : v < 2 ^ 31) : nI v / 10 = nI (v / 10) := pk_div (d := 10) h (by decide) (by decide)
theorem nI_rem10 {v : Nat} (h : v < 2 ^ 31) : nI v - nI v / 10 * 10 = nI (v % 10) := pk_rem (d := 10) h (by decide) (by decide)
theorem t155n {b : Int32} (hb : b < 0) : Ev d 155 [.ref 305, .int b] (mk L D C M R n s) (Rt (fun w m' => w = some (.int 0) ∧ ∃ M', m' = mk L D C M' R n s ∧ Fm (fun a k => (Nat.beq a 305 && Nat.beq k 40) || Nat.beq a 326) M M')) := by
  have e1 : b / 1 = b := Int32.div_one
  have h9 : b ≤ 9 := by
    rw [Int32.le_iff_toInt_le]
    rw [Int32.lt_iff_toInt_lt] at hb
    have e : (0 : Int32).toInt = 0 := rfl
    have e2 : (9 : Int32).toInt = 9 := rfl
    omega
  have h90 : b < 90 := by
    rw [Int32.lt_iff_toInt_lt] at hb ⊢
    have e : (0 : Int32).toInt = 0 := rfl
    have e2 : (90 : Int32).toInt = 90 := rfl
    omega
  refine ev_in rfl ?_
  refine go_t 0 rfl ?_
  refine go_pM rfl rfl rfl rfl ?_
  refine go_t 0 rfl ?_
  refine go_nx rfl ?_
  refine go_t 0 rfl ?_
  refine go_bt rfl (by rw [e1]; exact h9) ?_
  refine go_t 0 rfl ?_
  refine go_bt rfl (by exact h90) ?_
  refine go_t 0 rfl ?_
  refine go_ret rfl ?_
  exact ⟨rfl, _, rfl, Fm.rf.wr rfl⟩
theorem dg_mod {v k j : Nat} (h : j < k) : v % 10 ^ k / 10 ^ j % 10 = dg v j := by
  have e : 10 ^ k = 10 ^ j * 10 ^ (k - j) := by rw [← Nat.pow_add]; congr 1; omega
  rw [e, Nat.mod_mul_right_div_self]
  exact Nat.mod_mod_of_dvd _ ⟨10 ^ (k - j - 1), by rw [← Nat.pow_succ']; congr 1; omega⟩
/-- which digits were seen, of the first j -/
def seN (v : Nat) : Nat → Nat
  | 0 => 0
  | j + 1 => seN v j ||| 2 ^ dg v j
theorem seN_tb {v : Nat} : ∀ {j x}, (seN v j).testBit x = true ↔ ∃ i, i < j ∧ dg v i = x := by
  intro j
  induction j with
  | zero => intro x; rw [seN, Nat.zero_testBit]; exact ⟨fun q => Bool.noConfusion q, fun ⟨i, h, _⟩ => absurd h (Nat.not_lt_zero _)⟩
  | succ j ih =>
    intro x
    rw [seN, Nat.testBit_or, Bool.or_eq_true, ih, Nat.testBit_two_pow, decide_eq_true_iff]
    constructor
    · rintro (⟨i, h1, h2⟩ | h)
      · exact ⟨i, by omega, h2⟩
      · exact ⟨j, by omega, h⟩
    · rintro ⟨i, h1, h2⟩
      rcases Nat.lt_succ_iff_lt_or_eq.mp h1 with q | q
      · exact Or.inl ⟨i, q, h2⟩
      · subst q; exact Or.inr h2
theorem seN_lt {v : Nat} : ∀ {j}, (∀ i, i < j → dg v i < 6) → seN v j < 64 := by
  intro j h
  exact tb_lt (k := 6) fun x hx => by
    obtain ⟨i, h1, h2⟩ := seN_tb.mp hx
    have := h i h1
    omega
theorem nI_m1s (x : Nat) : nI x + (-1) = nI x - 1 := by rw [Int32.sub_eq_add_neg]
theorem nI_p1 {x : Nat} (h : 1 ≤ x) : nI x - 1 = nI (x - 1) := by
  have : nI x - nI 1 = nI (x - 1) := pk_sub h
  exact this
theorem t155 {v : Nat} (hv : v < 2 ^ 31) : Ev d 155 [.ref 305, .int (nI v)] (mk L D C M R n s) (Rt (fun w m' => ∃ M', m' = mk L D C M' R n s ∧ Fm (fun a k => (Nat.beq a 305 && Nat.beq k 40) || Nat.beq a 326) M M' ∧ ((w = some (.int 0) ∧ ∀ N, ¬ rowOK v N) ∨ (w = some (.int 1) ∧ ∃ N, rowOK v N ∧ RowM M' (rwV v N) N)))) := by
  refine ev_in rfl ?_
  refine go_t 0 rfl ?_
  refine go_pM rfl rfl rfl rfl ?_
  refine go_ind (k := 7) (fun q Lc m => ∃ k M', q = 7 - k ∧ k ≤ 7 ∧ Lc = [some (.ref 305), some (.int (nI v)), some (.int (nI (10 ^ k))), none, none, none] ∧ m = mk L D C M' R n s ∧ Fm (fun a k => (Nat.beq a 305 && Nat.beq k 40) || Nat.beq a 326) M M' ∧ M' 305 40 = nI k ∧ ∀ j, j < k → 9 < v / 10 ^ j) ?_ ⟨0, _, rfl, by decide, rfl, rfl, Fm.rf.wr rfl, wrs .., fun j h => absurd h (by omega)⟩
  rintro q _ _ ⟨k, M1, rfl, hk7, rfl, rfl, hF, h40, hgt⟩ kk
  have hp7 : 10 ^ k ≤ 10 ^ 7 := Nat.pow_le_pow_right (by decide) hk7
  have hpp : 0 < 10 ^ k := Nat.pow_pos (by decide)
  have edv : nI v / nI (10 ^ k) = nI (v / 10 ^ k) := pk_div hv hpp (by omega)
  have hdl : v / 10 ^ k ≤ v := Nat.div_le_self _ _
  have hdne : ¬ nI (10 ^ k) = 0 := fun z => by
    have := (nI_zero (p := 10 ^ k) (by omega)).mp z
    omega
  have out : (v / 10 ^ k ≤ 9 ∨ k = 7) → Go d 155 42 [some (.ref 305), some (.int (nI v)), some (.int (nI (10 ^ k))), none, none, none] [] (mk L D C M1 R n s) (Rt (fun w m' => ∃ M', m' = mk L D C M' R n s ∧ Fm (fun a k => (Nat.beq a 305 && Nat.beq k 40) || Nat.beq a 326) M M' ∧ ((w = some (.int 0) ∧ ∀ N, ¬ rowOK v N) ∨ (w = some (.int 1) ∧ ∃ N, rowOK v N ∧ RowM M' (rwV v N) N)))) := fun hex => by
    have only : ∀ N, rowOK v N → N = k := fun N h => by
      rcases hex with q | q
      · exact row_at h hgt q
      · have := row_ge h hgt
        have := h.2.2.1
        omega
    refine go_t 0 rfl ?_
    refine go_br rfl (fun h45 => ?_) (fun h45 => ?_)
    · skip
      refine go_t 0 rfl ?_
      refine go_ret rfl ?_
      refine ⟨M1, rfl, hF, Or.inl ⟨rfl, fun N h => ?_⟩⟩
      have hk := only N h
      subst hk
      have h1 := Nat.div_mul_le_self v (10 ^ N)
      rw [h.1] at h1
      have h2 : 10 ^ 1 ≤ 10 ^ N := Nat.pow_le_pow_right (by decide) h.2.1
      have h3 := (nI_ltI (a := v) (b := 90) hv (by decide)).mp h45
      omega
    refine go_t 0 rfl ?_
    refine go_chk rfl hdne ?_
    rw [edv]
    refine go_t 0 rfl ?_
    refine go_br rfl (fun h53 => ?_) (fun h53 => ?_)
    · skip
      refine go_t 0 rfl ?_
      refine go_ret rfl ?_
      exact ⟨M1, rfl, hF, Or.inl ⟨rfl, fun N h => by have hk := only N h; subst hk; exact h53 (by rw [h.1]; rfl)⟩⟩
    replace h53 := Decidable.not_not.mp h53
    refine go_t 0 rfl ?_
    refine go_gM rfl rfl rfl rfl ?_
    rw [h40]
    refine go_t 0 rfl ?_
    refine go_br rfl (fun h62 => ?_) (fun h62 => ?_)
    rotate_left
    · skip
      refine go_t 0 rfl ?_
      refine go_ret rfl ?_
      exact ⟨M1, rfl, hF, Or.inl ⟨rfl, fun N h => by have hk := only N h; subst hk; exact h62 (nI_le (a := N) (b := 6) h.2.2.1 (by decide))⟩⟩
    have h9 : v / 10 ^ k = 9 := (nI_eq (a := v / 10 ^ k) (b := 9) (by omega) (by decide)).mp h53
    have hk6 : k ≤ 6 := (nI_leI (a := k) (b := 6) (by omega) (by decide)).mp h62
    have h90 : 90 ≤ v := by
      have := Int32.not_lt.mp h45
      exact (nI_leI (a := 90) (b := v) (by decide) hv).mp this
    have hk1 : 1 ≤ k := by
      refine Decidable.byContradiction fun q => ?_
      rw [show k = 0 by omega, Nat.pow_zero, Nat.div_one] at h9
      omega
    have erm : nI v - nI v / nI (10 ^ k) * nI (10 ^ k) = nI (v % 10 ^ k) := pk_rem hv hpp (by omega)
    have hm1 : v % 10 ^ k < 2 ^ 31 := Nat.lt_of_le_of_lt (Nat.mod_le _ _) hv
    refine go_t 0 rfl ?_
    refine go_chk rfl hdne ?_
    rw [erm]
    refine go_t 0 rfl ?_
    refine go_gM rfl rfl rfl rfl ?_
    rw [h40]
    refine go_t 82 rfl ?_
    dsimp only
    refine go_for k (fun j Lc m => ∃ M', Lc = [some (.ref 305), some (.int (nI v)), some (.int (nI (10 ^ k))), some (.int (nI (seN v j))), some (.int (nI (v % 10 ^ k / 10 ^ j))), some (.int (nI (k - j) - 1))] ∧ m = mk L D C M' R n s ∧ Fm (fun a k => (Nat.beq a 305 && Nat.beq k 40) || Nat.beq a 326) M M' ∧ M' 305 40 = nI k ∧ (∀ i, i < j → M' 326 (k - 1 - i) = nI (dg v i)) ∧ (∀ i, i < j → dg v i < 6) ∧ ∀ a b, a < b → b < j → dg v a ≠ dg v b) ⟨M1, by rw [Nat.pow_zero, Nat.div_one]; rfl, rfl, hF, h40, fun i h => absurd h (by omega), fun i h => absurd h (by omega), fun a b _ h => absurd h (by omega)⟩ ?_ ?_
    · rintro j _ _ hj ⟨M2, rfl, rfl, hF2, h402, hrow, hd6, hdd⟩ kj
      have hx : v % 10 ^ k / 10 ^ j < 2 ^ 31 := Nat.lt_of_le_of_lt (Nat.div_le_self _ _) hm1
      have hdg := dg_mod (v := v) hj
      have hd10 : dg v j < 10 := Nat.mod_lt _ (by decide)
      have hse := seN_lt hd6
      rw [nI_p1 (show 1 ≤ k - j by omega)]
      have ek : k - j - 1 = k - 1 - j := by omega
      rw [ek]
      have bad : (6 ≤ dg v j ∨ ∃ i, i < j ∧ dg v i = dg v j) → ∀ N, ¬ rowOK v N := fun hb N h => by
        have hkN := only N h
        subst hkN
        rcases hb with q | ⟨i, h1, h2⟩
        · have := h.2.2.2.1 j hj; omega
        · exact h.2.2.2.2 i j h1 hj h2
      refine go_t 0 rfl ?_
      refine go_bf rfl (by exact (nI_pos (by omega))) ?_
      refine go_t 0 rfl ?_
      refine go_gR rfl rfl rfl rfl ?_
      refine go_t 0 rfl ?_
      refine go_nx rfl ?_
      refine go_iastM (k := k - 1 - j) rfl rfl rfl rfl (by omega) (by decide) ?_
      rw [nI_rem10 hx, hdg]
      refine go_t 0 rfl ?_
      refine go_nx rfl ?_
      refine go_t 0 rfl ?_
      refine go_gR rfl rfl rfl rfl ?_
      refine go_t 0 rfl ?_
      refine go_aldM (k := k - 1 - j) rfl rfl rfl rfl rfl (by omega) (by decide) ?_
      rw [wrs]
      refine go_t 0 rfl ?_
      refine go_br rfl (fun h115 => ?_) (fun h115 => ?_)
      · skip
        refine go_t 0 rfl ?_
        refine go_ret rfl ?_
        exact ⟨_, rfl, hF2.wr rfl, Or.inl ⟨rfl, bad (Or.inl ((nI_leI (a := 6) (b := dg v j) (by decide) (by omega)).mp h115))⟩⟩
      · skip
        refine go_t 0 rfl ?_
        refine go_gR rfl rfl rfl rfl ?_
        refine go_t 0 rfl ?_
        refine go_aldM (k := k - 1 - j) rfl rfl rfl rfl rfl (by omega) (by decide) ?_
        rw [wrs]
        refine go_t 0 rfl ?_
        dsimp only
        refine go_br rfl (fun h130 => ?_) (fun h130 => ?_)
        · skip
          refine go_t 0 rfl ?_
          refine go_gR rfl rfl rfl rfl ?_
          refine go_t 0 rfl ?_
          refine go_aldM (k := k - 1 - j) rfl rfl rfl rfl rfl (by omega) (by decide) ?_
          rw [wrs]
          refine go_t 82 rfl ?_
          dsimp only
          have hd : dg v j < 6 := by
            rw [Int32.not_le] at h115
            exact (nI_ltI (a := dg v j) (b := 6) (by omega) (by decide)).mp h115
          have hnew : ¬ ∃ i, i < j ∧ dg v i = dg v j := fun q => h130 ((bit_n (by omega) (by omega)).mpr (seN_tb.mpr q))
          rw [nI_with (by omega), nI_m1s, nI_div10 hx]
          refine kj _ _ ⟨_, ?_, rfl, hF2.wr rfl, by rw [wr_ne (by decide)]; exact h402, fun i hi => ?_, fun i hi => ?_, fun a b h1 h2 => ?_⟩
          · rw [div_s, seN, show k - (j + 1) = k - 1 - j by omega]
          · by_cases e : i = j
            · subst e; rw [wrs]
            · rw [wrk (by omega)]; exact hrow i (by omega)
          · by_cases e : i = j
            · subst e; exact hd
            · exact hd6 i (by omega)
          · by_cases e : b = j
            · subst e; exact fun z => hnew ⟨a, h1, z⟩
            · exact hdd a b h1 (by omega)
        · skip
          replace h130 := Decidable.not_not.mp h130
          refine go_t 0 rfl ?_
          refine go_ret rfl ?_
          exact ⟨_, rfl, hF2.wr rfl, Or.inl ⟨rfl, bad (Or.inr (seN_tb.mp ((bit_n (by omega) (by omega)).mp h130)))⟩⟩
    · rintro _ _ ⟨M2, rfl, rfl, hF2, h402, hrow, hd6, hdd⟩
      rw [Nat.sub_self]
      refine go_t 0 rfl ?_
      refine go_nx rfl ?_
      refine go_t 0 rfl ?_
      refine go_ret rfl ?_
      refine ⟨M2, rfl, hF2, Or.inr ⟨rfl, k, ⟨h9, hk1, hk6, hd6, fun i j h1 h2 => hdd i j h1 h2⟩, h402, fun i hi => ?_⟩⟩
      have := hrow (k - 1 - i) (by omega)
      rw [show k - 1 - (k - 1 - i) = i by omega] at this
      rw [this]
      rfl
  refine go_t 0 rfl ?_
  refine go_chk rfl hdne ?_
  rw [edv]
  refine go_t 0 rfl ?_
  refine go_br rfl (fun h12 => ?_) (fun h12 => ?_)
  · skip
    exact out (Or.inl ((nI_leI (a := v / 10 ^ k) (b := 9) (by omega) (by decide)).mp h12))
  refine go_t 0 rfl ?_
  refine go_gM rfl rfl rfl rfl ?_
  rw [h40]
  refine go_t 0 rfl ?_
  refine go_br rfl (fun h21 => ?_) (fun h21 => ?_)
  · skip
    exact out (Or.inr (by have := (nI_leI (a := 7) (b := k) (by decide) (by omega)).mp h21; omega))
  have hk : k < 7 := by
    rw [Int32.not_le] at h21
    exact (nI_ltI (a := k) (b := 7) (by omega) (by decide)).mp h21
  have hgt2 : 9 < v / 10 ^ k := by
    rw [Int32.not_le] at h12
    exact (nI_ltI (a := 9) (b := v / 10 ^ k) (by decide) (by omega)).mp h12
  have e10 : (10 : Int32) * nI (10 ^ k) = nI (10 ^ (k + 1)) := by rw [Nat.pow_succ, Nat.mul_comm]; exact pk_mul 10 _
  refine go_t 0 rfl ?_
  dsimp only
  refine go_gM rfl rfl rfl rfl ?_
  rw [h40]
  refine go_t 0 rfl ?_
  dsimp only
  refine go_pM rfl rfl rfl rfl ?_
  refine go_t 7 rfl ?_
  rw [nI_1]
  refine kk (7 - (k + 1)) _ _ (by omega) ⟨k + 1, _, rfl, by omega, by rw [e10], rfl, hF.wr rfl, wrs .., fun j hj => ?_⟩
  by_cases e : j = k
  · subst e; exact hgt2
  · exact hgt j (by omega)
theorem mo19 (hV : VP P) (a b : Int32) (c : Nat) (hc : c < 2) : MoOK P P 154 [.int a, .int b, .int (nI c)] (.int (wAgenda P a b (nI c))) := by
  intro L D C M R n s hP
  have hW : ∀ a k, per a k = true → ((Nat.beq a 305 && Nat.beq k 40) || Nat.beq a 326) = false := fun a k h => by
    cases hq : ((Nat.beq a 305 && Nat.beq k 40) || Nat.beq a 326) with
    | false => rfl
    | true =>
      exfalso
      rw [Bool.or_eq_true, Bool.and_eq_true] at hq
      rcases hq with ⟨h1, h2⟩ | h1
      · have h1 := Nat.eq_of_beq_eq_true h1
        have h2 := Nat.eq_of_beq_eq_true h2
        subst h1 h2
        cases h
      · have h1 := Nat.eq_of_beq_eq_true h1
        subst h1
        simp [per] at h
  have hP0 : pr (wr M 305 0 0) = P := (pr_wr rfl).trans hP
  by_cases hb : b < 0
  · have e0 : wAgenda P a b (nI c) = -1 := by rw [wAgenda, if_neg (fun q => absurd q.2 (Int32.not_le.mpr hb))]
    rw [e0]
    refine ev_in rfl ?_
    refine go_t 0 rfl ?_
    refine go_pM rfl rfl rfl rfl ?_
    refine go_t 0 rfl ?_
    refine go_f rfl rfl (t104 _) ?_
    refine go_br rfl (fun h10 => ?_) (fun h10 => ?_)
    · skip
      replace h10 := bI_0.mp h10
      refine go_t 0 rfl ?_
      refine go_ret rfl ?_
      exact ⟨rfl, _, rfl, hP0⟩
    · skip
      replace h10 := bI_n0.mp h10
      refine go_t 0 rfl ?_
      refine go_c rfl rfl (t155n hb) (fun v15 m15 hq15 => ?_)
      obtain ⟨rfl, M1, rfl, hF⟩ := hq15
      refine go_nx rfl ?_
      refine go_t 0 rfl ?_
      refine go_ret rfl ?_
      exact ⟨rfl, M1, rfl, (hF.pr hW).trans hP0⟩
  · obtain ⟨v, hv, rfl⟩ := nI_of hb
    refine ev_in rfl ?_
    refine go_t 0 rfl ?_
    refine go_pM rfl rfl rfl rfl ?_
    refine go_t 0 rfl ?_
    refine go_f rfl rfl (t104 _) ?_
    refine go_br rfl (fun h10 => ?_) (fun h10 => ?_)
    · skip
      replace h10 := bI_0.mp h10
      refine go_t 0 rfl ?_
      refine go_ret rfl ?_
      exact ⟨by rw [wAgenda, if_neg (fun q => h10 q.1)], _, rfl, hP0⟩
    replace h10 := bI_n0.mp h10
    obtain ⟨r, hr, rfl⟩ := ru_of h10
    have e0 : wAgenda P (nI r) (nI v) (nI c) = agV P r v c (rowN v) := by rw [wAgenda, if_pos ⟨h10, nI_pos' hv⟩, nI_clamp (by omega), nI_clamp hv, nI_clamp (by omega)]
    refine go_t 0 rfl ?_
    refine go_c (d := 1498) rfl rfl (t155 (M := wr M 305 0 0) hv) (fun w1 m1 hq1 => ?_)
    obtain ⟨M1, rfl, hF, hq⟩ := hq1
    have hP1 : pr M1 = P := (hF.pr hW).trans hP0
    rcases hq with ⟨rfl, hno⟩ | ⟨rfl, N, hok, hrow⟩
    · rw [e0, rowN_n hno]
      refine go_nx rfl ?_
      refine go_t 0 rfl ?_
      refine go_ret rfl ?_
      exact ⟨rfl, M1, rfl, hP1⟩
    · rw [e0, rowN_y hok]
      have hrk := rwV_ok hok
      refine go_nx rfl ?_
      refine go_t 0 rfl ?_
      refine go_c (d := 1498) rfl rfl (t156 (d := 1493) hP1 hV hr) (fun w2 m2 hq2 => ?_)
      obtain ⟨rfl, M2, rfl, hF2, hH2, hB2⟩ := hq2
      have hP2 : pr M2 = P := (hF2.pr fun _ _ => wB_per).trans hP1
      have hrow2 : RowM M2 (rwV v N) N := by
        refine ⟨?_, fun k hk => ?_⟩
        · rw [hF2 _ _ rfl]; exact hrow.1
        · rw [hF2 _ _ rfl]; exact hrow.2 k hk
      refine go_t 0 rfl ?_
      rcases (show c = 0 ∨ c = 1 by omega) with rfl | rfl
      · refine go_f (d := 1498) rfl rfl (t157F hok.2.1 hok.2.2.1 hrk.1 hrk.2 hrow2 hB2) ?_
        exact go_ret rfl ⟨rfl, M2, rfl, hP2⟩
      · refine go_c (d := 1498) rfl rfl (t157T hok.2.1 hok.2.2.1 hrk.1 hrow2 hB2) (fun w3 m3 hq3 => ?_)
        obtain ⟨rfl, g, rfl⟩ := hq3
        exact go_ret rfl ⟨rfl, _, rfl, (pr_fu fun _ => rfl).trans hP2⟩
theorem lt0_9 {b : Int32} (hb : b < 0) : b ≤ 9 ∧ ¬ b = 9 := by
  rw [Int32.lt_iff_toInt_lt] at hb
  have e : (0 : Int32).toInt = 0 := rfl
  have e2 : (9 : Int32).toInt = 9 := rfl
  refine ⟨by rw [Int32.le_iff_toInt_le]; omega, fun q => ?_⟩
  rw [q] at hb
  omega
theorem co19 (a b : Int32) (c : Nat) (hc : c < 2) : CoOK P P 67 [.int a, .int b, .int (nI c)] (.int (wAgenda P a b (nI c))) := by
  intro xs F f L D C M R n s h
  by_cases hb : b < 0
  · have e0 : wAgenda P a b (nI c) = -1 := by rw [wAgenda, if_neg (fun q => absurd q.2 (Int32.not_le.mpr hb))]
    rw [e0]
    refine ev_in rfl ?_
    refine go_t 0 rfl ?_
    refine go_f rfl rfl (t48 _) ?_
    refine go_br rfl (fun h4 => ?_) (fun h4 => ?_)
    rotate_left
    · skip
      replace h4 := bI_0.mp (Decidable.not_not.mp h4)
      refine go_t 0 rfl ?_
      refine go_ret rfl ?_
      exact ⟨rfl, F, f, D, C, R, n, s, rfl, h, by omega, by omega⟩
    replace h4 := bI_n0.mp h4
    refine go_t 18 rfl ?_
    refine go_t 0 rfl ?_
    refine go_bt rfl (by exact (lt0_9 hb).1) ?_
    refine go_t 0 rfl ?_
    refine go_bt rfl (by exact (lt0_9 hb).2) ?_
    refine go_t 0 rfl ?_
    refine go_ret rfl ?_
    exact ⟨rfl, F, f, D, C, R, n, s, rfl, h, by omega, by omega⟩
  · obtain ⟨v, hv, rfl⟩ := nI_of hb
    refine ev_in rfl ?_
    refine go_t 0 rfl ?_
    refine go_f rfl rfl (t48 _) ?_
    refine go_br rfl (fun h4 => ?_) (fun h4 => ?_)
    rotate_left
    · skip
      replace h4 := bI_0.mp (Decidable.not_not.mp h4)
      refine go_t 0 rfl ?_
      refine go_ret rfl ?_
      exact ⟨by rw [wAgenda, if_neg (fun q => h4 q.1)], F, f, D, C, R, n, s, rfl, h, by omega, by omega⟩
    replace h4 := bI_n0.mp h4
    refine go_t 18 rfl ?_
    obtain ⟨r, hr, rfl⟩ := ru_of h4
    have e0 : wAgenda P (nI r) (nI v) (nI c) = agV P r v c (rowN v) := by rw [wAgenda, if_pos ⟨h4, nI_pos' hv⟩, nI_clamp (by omega), nI_clamp hv, nI_clamp (by omega)]
    rw [e0]
    refine go_ind (k := 7) (fun q Lc m => ∃ k x7, q = 7 - k ∧ k ≤ 7 ∧ Lc = [some (.ref 281), some (.int (nI r)), some (.int (nI v)), some (.int (nI c)), some (.int (nI k)), some (.int (nI (seN v k))), some (.int (nI (v / 10 ^ k))), x7] ∧ m = mk L D C M R n s ∧ (∀ j, j < k → 9 < v / 10 ^ j) ∧ (∀ i, i < k → dg v i < 6) ∧ ∀ a b, a < b → b < k → dg v a ≠ dg v b) ?_ ⟨0, none, rfl, by decide, by rw [Nat.pow_zero, Nat.div_one]; rfl, rfl, fun j h => absurd h (by omega), fun j h => absurd h (by omega), fun a b _ h => absurd h (by omega)⟩
    rintro q _ _ ⟨k, x7, rfl, hk7, rfl, rfl, hgt, hd6, hdd⟩ kk
    have hdl : v / 10 ^ k ≤ v := Nat.div_le_self _ _
    have hse := seN_lt hd6
    have only : (v / 10 ^ k ≤ 9 ∨ k = 7) → ∀ N, rowOK v N → N = k := fun hex N h => by
      rcases hex with q | q
      · exact row_at h hgt q
      · have := row_ge h hgt
        have := h.2.2.1
        omega
    have out : (v / 10 ^ k ≤ 9 ∨ k = 7) → Go 1499 67 82 [some (.ref 281), some (.int (nI r)), some (.int (nI v)), some (.int (nI c)), some (.int (nI k)), some (.int (nI (seN v k))), some (.int (nI (v / 10 ^ k))), x7] [] (mk L D C M R n s) (Rt (fun w m' => w = some (.int (agV P r v c (rowN v))) ∧ ∃ F' f' D' C' R' n' s', m' = mk L D' C' M R' n' s' ∧ CI trT xs P F' f' L D' C' R' n' ∧ n' ≤ n + 16000 ∧ s' ≤ s + 90000)) := fun hex => by
      have only := only hex
      refine go_t 0 rfl ?_
      refine go_br rfl (fun h86 => ?_) (fun h86 => ?_)
      · skip
        refine go_t 0 rfl ?_
        refine go_ret rfl ?_
        exact ⟨by rw [rowN_n (fun N hN => by have hk := only N hN; subst hk; exact h86 (by rw [hN.1]; rfl))]; rfl, F, f, D, C, R, n, s, rfl, h, by omega, by omega⟩
      replace h86 := Decidable.not_not.mp h86
      refine go_t 0 rfl ?_
      refine go_f rfl rfl (t37 _ _ _) ?_
      refine go_br rfl (fun h97 => ?_) (fun h97 => ?_)
      rotate_left
      · skip
        replace h97 := bI_0.mp (Decidable.not_not.mp h97)
        refine go_t 0 rfl ?_
        refine go_ret rfl ?_
        exact ⟨by rw [rowN_n (fun N hN => by have hk := only N hN; subst hk; exact h97 ⟨nI_le (a := 1) (b := N) hN.2.1 (by omega), nI_le (a := N) (b := 6) hN.2.2.1 (by decide)⟩)]; rfl, F, f, D, C, R, n, s, rfl, h, by omega, by omega⟩
      replace h97 := bI_n0.mp h97
      have h9 : v / 10 ^ k = 9 := (nI_eq (a := v / 10 ^ k) (b := 9) (by omega) (by decide)).mp h86
      have hk1 : 1 ≤ k := (nI_leI (a := 1) (b := k) (by decide) (by omega)).mp h97.1
      have hk6 : k ≤ 6 := (nI_leI (a := k) (b := 6) (by omega) (by decide)).mp h97.2
      have hok : rowOK v k := ⟨h9, hk1, hk6, hd6, fun i j h1 h2 => hdd i j h1 h2⟩
      have hrk := rwV_ok hok
      rw [rowN_y hok]
      have hB0 : BS xs P f L r n s D (wr C 281 17 (nI k)) R n s := (BS.new h r).put rfl (Or.inr (by decide)) ⟨by decide, by decide, by decide⟩ (by decide)
      refine go_t 0 rfl ?_
      refine go_pI rfl rfl rfl rfl rfl ?_
      refine go_t 117 rfl ?_
      dsimp only
      refine go_for k (fun j Lc m => ∃ C', Lc = [some (.ref 281), some (.int (nI r)), some (.int (nI v)), some (.int (nI c)), some (.int (nI k)), some (.int (nI (seN v k))), some (.int (nI (v / 10 ^ j))), some (.int (nI (k - j) - 1))] ∧ m = mk L D C' M R n s ∧ BS xs P f L r n s D C' R n s ∧ C' 281 17 = nI k ∧ ∀ i, i < j → C' 294 (k - 1 - i) = nI (dg v i)) ⟨_, by rw [Nat.pow_zero, Nat.div_one]; rfl, rfl, hB0, wrs .., fun i h => absurd h (by omega)⟩ ?_ ?_
      · rintro j _ _ hj ⟨C1, rfl, rfl, hB1, h17, hrow⟩ kj
        have hx : v / 10 ^ j < 2 ^ 31 := Nat.lt_of_le_of_lt (Nat.div_le_self _ _) hv
        rw [nI_p1 (show 1 ≤ k - j by omega), show k - j - 1 = k - 1 - j by omega]
        refine go_t 0 rfl ?_
        refine go_bf rfl (by exact (nI_pos (by omega))) ?_
        refine go_t 0 rfl ?_
        refine go_gR rfl rfl rfl rfl ?_
        refine go_t 0 rfl ?_
        refine go_nx rfl ?_
        refine go_iastC (k := k - 1 - j) rfl rfl rfl rfl (by omega) (by decide) ?_
        rw [nI_rem10 hx]
        refine go_t 0 rfl ?_
        refine go_nx rfl ?_
        refine go_t 117 rfl ?_
        rw [nI_div10 hx, nI_m1s]
        refine kj _ _ ⟨_, ?_, rfl, hB1.put rfl (Or.inl (by decide)) ⟨by decide, by decide, by decide⟩ (by decide), by rw [wr_ne (by decide)]; exact h17, fun i hi => ?_⟩
        · rw [div_s, show k - (j + 1) = k - 1 - j by omega]
        · by_cases e : i = j
          · subst e; rw [wrs]; rfl
          · rw [wrk (by omega)]; exact hrow i (by omega)
      · rintro _ _ ⟨C1, rfl, rfl, hB1, h17, hrow⟩
        rw [Nat.sub_self]
        have hRow : RowC C1 (rwV v k) k := ⟨h17, fun i hi => by
          have := hrow (k - 1 - i) (by omega)
          rw [show k - 1 - (k - 1 - i) = i by omega] at this
          exact this⟩
        have r0 := hRow.2 0 (by omega)
        refine go_t 0 rfl (go_nx rfl ?_)
        refine go_t 0 rfl ?_
        refine go_gR rfl rfl rfl rfl ?_
        refine go_t 0 rfl ?_
        refine go_aldC (k := 0) rfl rfl rfl rfl rfl (by decide) (by decide) ?_
        rw [r0]
        refine go_t 0 rfl ?_
        rcases (show c = 0 ∨ c = 1 by omega) with rfl | rfl
        · have hev := t68F (d := 1294 - (k - 1)) (M := M) (f := f) hr hk6 hrk.1 (k - 1) 1 (rwV v k 0) D C1 R n s (by omega) (hrk.1 0 (by omega)) hB1 hRow
          rw [show 1294 - (k - 1) + 204 + (k - 1) = 1498 by omega] at hev
          refine go_c (d := 1498) rfl rfl hev (fun w3 m3 hq3 => ?_)
          obtain ⟨rfl, D2, C2, R2, n2, s2, rfl, hB2, _⟩ := hq3
          have hle := hB2.le
          obtain ⟨F2, hC2, _⟩ := hB2
          exact go_ret rfl ⟨rfl, F2, f, D2, C2, R2, n2, s2, rfl, hC2, by omega, by omega⟩
        · have hev := t68T (d := 1294 - (k - 1)) (M := M) (f := f) hr hk6 hrk.1 (k - 1) 1 (rwV v k 0) D C1 R n s (by omega) (hrk.1 0 (by omega)) hB1 hRow
          rw [show 1294 - (k - 1) + 204 + (k - 1) = 1498 by omega] at hev
          refine go_c (d := 1498) rfl rfl hev (fun w3 m3 hq3 => ?_)
          obtain ⟨rfl, D2, C2, R2, n2, s2, rfl, hB2, _⟩ := hq3
          have hle := hB2.le
          obtain ⟨F2, hC2, _⟩ := hB2
          exact go_ret rfl ⟨rfl, F2, f, D2, C2, R2, n2, s2, rfl, hC2, by omega, by omega⟩
    have bad : 9 < v / 10 ^ k → (6 ≤ dg v k ∨ ∃ i, i < k ∧ dg v i = dg v k) → ∀ N, ¬ rowOK v N := fun h9 hb N h => by
      have hge := row_ge h (k := k + 1) (fun j hj => by
        by_cases e : j = k
        · subst e; exact h9
        · exact hgt j (by omega))
      rcases hb with q | ⟨i, h1, h2⟩
      · have := h.2.2.2.1 k (by omega); omega
      · exact h.2.2.2.2 i k h1 (by omega) h2
    have hx : v / 10 ^ k < 2 ^ 31 := by omega
    have hd10 : dg v k < 10 := Nat.mod_lt _ (by decide)
    have erem : nI (v / 10 ^ k) - nI (v / 10 ^ k) / 10 * 10 = nI (dg v k) := nI_rem10 hx
    refine go_t 0 rfl ?_
    refine go_br rfl (fun h22 => ?_) (fun h22 => ?_)
    · skip
      exact out (Or.inl ((nI_leI (a := v / 10 ^ k) (b := 9) (by omega) (by decide)).mp h22))
    refine go_t 0 rfl ?_
    refine go_br rfl (fun h29 => ?_) (fun h29 => ?_)
    · skip
      refine out (Or.inr ?_)
      have := (nI_ltI (a := 6) (b := k) (by decide) (by omega)).mp h29
      omega
    have h9 : 9 < v / 10 ^ k := by
      rw [Int32.not_le] at h22
      exact (nI_ltI (a := 9) (b := v / 10 ^ k) (by decide) (by omega)).mp h22
    have hk6 : k < 7 := by
      have := Int32.not_lt.mp h29
      have := (nI_leI (a := k) (b := 6) (by omega) (by decide)).mp this
      omega
    refine go_t 0 rfl ?_
    refine go_nx rfl ?_
    rw [erem]
    refine go_t 0 rfl ?_
    refine go_nx rfl ?_
    rw [nI_div10 hx]
    refine go_t 0 rfl ?_
    refine go_f rfl rfl (t64 _) ?_
    refine go_br rfl (fun h51 => ?_) (fun h51 => ?_)
    · skip
      replace h51 := bI_0.mp h51
      refine go_t 0 rfl ?_
      refine go_ret rfl ?_
      refine ⟨?_, F, f, D, C, R, n, s, rfl, h, by omega, by omega⟩
      rw [rowN_n (bad h9 (Or.inl (Decidable.byContradiction fun q => h51 ⟨nI_pos' (by omega), nI_le (a := dg v k) (b := 5) (by omega) (by decide)⟩)))]
      rfl
    · skip
      replace h51 := bI_n0.mp h51
      refine go_t 0 rfl ?_
      dsimp only
      refine go_br rfl (fun h62 => ?_) (fun h62 => ?_)
      · skip
        refine go_t 18 rfl ?_
        dsimp only
        have hd : dg v k < 6 := by
          have := (nI_leI (a := dg v k) (b := 5) (by omega) (by decide)).mp h51.2
          omega
        have hnew : ¬ ∃ i, i < k ∧ dg v i = dg v k := fun q => h62 ((bit_n (by omega) (by omega)).mpr (seN_tb.mpr q))
        rw [nI_with (by omega), nI_1]
        refine kk (7 - (k + 1)) _ _ (by omega) ⟨k + 1, _, rfl, by omega, by rw [div_s]; rfl, rfl, fun j hj => ?_, fun i hi => ?_, fun a b h1 h2 => ?_⟩
        · by_cases e : j = k
          · subst e; exact h9
          · exact hgt j (by omega)
        · by_cases e : i = k
          · subst e; exact hd
          · exact hd6 i (by omega)
        · by_cases e : b = k
          · subst e; exact fun z => hnew ⟨a, h1, z⟩
          · exact hdd a b h1 (by omega)
      · skip
        replace h62 := Decidable.not_not.mp h62
        refine go_t 0 rfl ?_
        refine go_ret rfl ?_
        refine ⟨?_, F, f, D, C, R, n, s, rfl, h, by omega, by omega⟩
        rw [rowN_n (bad h9 (Or.inr (seN_tb.mp ((bit_n (by omega) (by omega)).mp h62))))]
        rfl
end OB
